/-! OWN LAYER, 8: calls -/
def wk_ct : List WV → Nat
  | [] => 0
  | v :: t => (bif wk_c2 v then 2 else 1) + wk_ct t
theorem wk_ct_eq : ∀ st : List WV, ((st.map wk_v).map fun v => v.category).sum = wk_ct st
  | [] => rfl
  | v :: t => by
    simp only [List.map_cons, List.sum_cons, wk_ct]
    rw [wk_ct_eq t, wk_cat]
    cases wk_c2 v <;> rfl
/-- what the descriptor of a callee must say: n arguments -/
def wk_md (M : MI) (n : Nat) : Prop := M.1.cls ≠ "java/lang/invoke/MethodHandle" ∧ M.1.cls ≠ "java/lang/invoke/VarHandle" ∧ (parseMethodDescriptor M.1.desc).map (fun d => d.parameters.length) = some n
theorem wk_blind {w : WD} {As : List WV} {G : GH} : FrameBlind (wk_P w As G) := fun a U g mk h => ⟨h.1, h.2.1, h.2.2.same rfl rfl⟩
theorem va_S.call {A : Nat → Prop} {s st t : State} {H : Heap} {locs L : List Loc} (h : va_S A s.heap H locs) (e : st.heap = H) (hF : va_F A st t) (hL : ∀ q ∈ L, A q.base) : va_S A s.heap t.heap (locs ++ L) := by
  refine ⟨Nat.le_trans h.1 (by rw [← e]; exact hF.1), fun q h1 h2 => ?_, fun q hq => ?_⟩
  · have h3 : q < st.heap.size := by rw [e]; exact Nat.lt_of_lt_of_le h1 h.1
    rw [hF.2 q h3 h2, e]
    exact h.2.1 q h1 h2
  · rcases List.mem_append.mp hq with h9 | h9
    · exact h.2.2 q h9
    · exact hL q h9
section
variable {w : WD} {M : MI} {j : JB} {pc r : Nat} {lv : List (Nat × WV)} {st st0 : List WV} {G : GH}
theorem wk_ofRun {p : Program} {l : Launch} {e : Env} {s : State} {m : MethodId} {args : Array Value} {below : List Frame} {meth : Method} {c : Code} {H : Heap} {locs : List Loc} {cells slots : Nat} {ls : Array Slot} {b' : Nat} {a' : Array Value} {P : Option WV → GH → Prop} {PX : String → Nat → GH → Prop}
    (X : wk_ok w M j p l s m args meth c) (hS : va_S (hp_A w) s.heap H locs) (hc : cells + r ≤ j.2.1) (hs : slots + 12 * r ≤ 12 * j.2.1) (hl : lv_has ls M.2.2.1 (wk_lv lv)) (hb : b' ≤ r)
    (hrun : vx_Run p l e (wk_rm j.1 j.2.1) s m args below meth c H locs cells slots b' (12 * b') (F0 m pc ls (st0.map wk_v)) (st.map wk_v) (wk_Q w P a') (wk_X w PX) (hp_A w))
    (kr : ∀ v G', P v G' → wk_V w M j (pc + 3) lv (v.toList ++ st) G' (r - b')) (kx : ∀ E q G', PX E q G' → wk_T w M j pc lv G' (r - b') E q) :
    W p l e (wk_rm j.1 j.2.1) s m args below meth c H locs cells slots (vx_MQ below (wk_Q w j.2.2.1) (wk_X w j.2.2.2.1) args s j.2.1 (12 * j.2.1) (hp_A w)) (F0 m pc ls (st0.map wk_v)) := by
  intro T hT X9
  rcases hrun T hT X9 with ⟨v, s0, t, T', L, e0, X', hL, e1, e2, ⟨v', G', ev, hP, hR', hF⟩, hgo⟩ | ⟨q, s0, t, T', L, E, ce, e0, X', hL, e1, e2, ⟨G', hP, hR', hF⟩, g1, g2, g3, hst⟩
  · have ev' : v = v'.map wk_v := Outcome.returned.inj ev
    subst ev'
    have hS' := hS.call e0 hF hL
    have k := kr v' G' hP p l e s m args below meth c X T'.heap (locs ++ L) (cells + b') (slots + 12 * b') ls (by rw [e1]; exact hR') (by rw [e1]; exact hS') (by omega) (by omega) hl T' rfl X'
    obtain ⟨t2, a1, b1⟩ := k
    refine ⟨t2, hgo t2 ?_, b1⟩
    have e9 : (v'.map wk_v).toList ++ st.map wk_v = (v'.toList ++ st).map wk_v := by cases v' <;> simp
    rw [e9]
    exact a1
  · have hS' := hS.call e0 hF hL
    obtain ⟨t2, a1, b1⟩ := kx E q G' hP p l e s m args below meth c X T'.heap (locs ++ L) (cells + b') (slots + 12 * b') ls (st.map wk_v) ce (by rw [e1]; exact hR') (by rw [e1]; exact hS') (by omega) (by omega) hl (by rw [e1]; exact g1) g2 g3 T' rfl X'
    exact ⟨t2, hst.trans a1, b1⟩
theorem wk_ofRun5 {p : Program} {l : Launch} {e : Env} {s : State} {m : MethodId} {args : Array Value} {below : List Frame} {meth : Method} {c : Code} {H : Heap} {locs : List Loc} {cells slots : Nat} {ls : Array Slot} {b' : Nat} {a' : Array Value} {P : Option WV → GH → Prop} {PX : String → Nat → GH → Prop}
    (X : wk_ok w M j p l s m args meth c) (hS : va_S (hp_A w) s.heap H locs) (hc : cells + r ≤ j.2.1) (hs : slots + 12 * r ≤ 12 * j.2.1) (hl : lv_has ls M.2.2.1 (wk_lv lv)) (hb : b' ≤ r)
    (hrun : vx_Run5 p l e (wk_rm j.1 j.2.1) s m args below meth c H locs cells slots b' (12 * b') (F0 m pc ls (st0.map wk_v)) (st.map wk_v) (wk_Q w P a') (wk_X w PX) (hp_A w))
    (kr : ∀ v G', P v G' → wk_V w M j (pc + 5) lv (v.toList ++ st) G' (r - b')) (kx : ∀ E q G', PX E q G' → wk_T w M j pc lv G' (r - b') E q) :
    W p l e (wk_rm j.1 j.2.1) s m args below meth c H locs cells slots (vx_MQ below (wk_Q w j.2.2.1) (wk_X w j.2.2.2.1) args s j.2.1 (12 * j.2.1) (hp_A w)) (F0 m pc ls (st0.map wk_v)) := by
  intro T hT X9
  rcases hrun T hT X9 with ⟨v, s0, t, T', L, e0, X', hL, e1, e2, ⟨v', G', ev, hP, hR', hF⟩, hgo⟩ | ⟨q, s0, t, T', L, E, ce, e0, X', hL, e1, e2, ⟨G', hP, hR', hF⟩, g1, g2, g3, hst⟩
  · have ev' : v = v'.map wk_v := Outcome.returned.inj ev
    subst ev'
    have hS' := hS.call e0 hF hL
    have k := kr v' G' hP p l e s m args below meth c X T'.heap (locs ++ L) (cells + b') (slots + 12 * b') ls (by rw [e1]; exact hR') (by rw [e1]; exact hS') (by omega) (by omega) hl T' rfl X'
    obtain ⟨t2, a1, b1⟩ := k
    refine ⟨t2, hgo t2 ?_, b1⟩
    have e9 : (v'.map wk_v).toList ++ st.map wk_v = (v'.toList ++ st).map wk_v := by cases v' <;> simp
    rw [e9]
    exact a1
  · have hS' := hS.call e0 hF hL
    obtain ⟨t2, a1, b1⟩ := kx E q G' hP p l e s m args below meth c X T'.heap (locs ++ L) (cells + b') (slots + 12 * b') ls (st.map wk_v) ce (by rw [e1]; exact hR') (by rw [e1]; exact hS') (by omega) (by omega) hl (by rw [e1]; exact g1) g2 g3 T' rfl X'
    exact ⟨t2, hst.trans a1, b1⟩
theorem wk_good {M' : MI} (h5 : wk_hd M' ∈ lw_all) : GoodIn lw_all (wk_hd M' :: lw_all) := fun x hx => by
  rcases List.mem_cons.mp hx with e | e
  · rw [e]; exact lw_self _ h5
  · exact lw_self _ e
theorem wk_room {d' b' nL : Nat} {d b : Nat} (hL : nL ≤ 31) (hdp : d' + 1 ≤ d) : (wk_rm d' b').frames + 1 ≤ (wk_rm d b).frames ∧ 8 + (nL + 11) + (wk_rm d' b').locals ≤ (wk_rm d b).locals := by
  refine ⟨hdp, ?_⟩
  show 8 + (nL + 11) + 50 * d' ≤ 50 * d
  omega
theorem wk_pre {s : State} {H : Heap} {locs : List Loc} {As : List WV} (hR : hp_R w G H) (hS : va_S (hp_A w) s.heap H locs) (hK : hp_K w s) : ∀ U : State, U.heap = H → s.WarmedH U.vm → wk_P w As G (As.map wk_v).toArray U :=
  fun U hU hW => ⟨rfl, by rw [hU]; exact hR, hK.moved hW (by rw [hU]; exact hS.2.1)⟩
/-- a call through an object of the method's own class (private methods too) -/
theorem wk_callV {M' : MI} {d' b' n a idx : Nat} {As : List WV} {P : Option WV → GH → Prop} {PX : String → Nat → GH → Prop} (hC : wk_C w M' d' b' (vR (some a) :: As) G P PX) (hh : M'.2.2.2.2 = [])
    (h1 : Cond.methodLink M.1.cls idx M'.1 ∈ lw_all) (h2 : Cond.instanceMethod M'.1 ∈ lw_all) (h3 : Cond.selects M'.1.cls M'.1 M'.1 ∈ lw_all) (h4 : Cond.initialized M'.1.cls ∈ lw_all) (h5 : wk_hd M' ∈ lw_all) (h6 : wk_md M' n) (hL : M'.2.2.1 ≤ 31)
    (hk : hp_kd G a ≠ 0 ∧ hp_kd G a < 28 ∧ hp_C (hp_kd G a) = M'.1.cls) (hn : As.length = n) (hst : st0 = As.reverse ++ vR (some a) :: st) (hcat : wk_ct st ≤ 8) (hdp : d' + 1 ≤ j.1) (hb : b' ≤ r) (hd : decode M.2.1 pc = .ok (.invokevirtual idx, 3))
    (kr : ∀ v G', P v G' → wk_V w M j (pc + 3) lv (v.toList ++ st) G' (r - b')) (kx : ∀ E q G', PX E q G' → wk_T w M j pc lv G' (r - b') E q) : wk_V w M j pc lv st0 G r := by
  intro p l e s m args below meth c X H locs cells slots ls hR hS hc hs hl
  obtain ⟨y, cc, nL, ret, hdl⟩ := M'
  have hh' : hdl = [] := hh
  subst hh' hst
  obtain ⟨cell, g1, g2, g3, -⟩ := hp_ref hR X.2.2.2.2.2.2.2.1 hk.1 hk.2.1
  have hGV : GoodIn lw_all (wsV M.1.cls idx y.cls y (wk_hd (y, cc, nL, ret, []) :: lw_all)) := lw_app (fun x hx => by
    simp only [List.mem_cons, List.not_mem_nil, or_false] at hx
    rcases hx with e | e | e | e
    · rw [e]; exact h1
    · rw [e]; exact h2
    · rw [e]; exact h3
    · rw [e]; exact h4) (wk_good h5)
  have cw := cwV (R := wk_rm j.1 j.2.1) (rm := wk_rm d' b') (mc := b') (ms := 12 * b') (bytes := cc) (maxL := nL) (ret := ret) n X.2.2.2.2.2.2.1 hGV rfl rfl rfl ⟨rfl, h6⟩ (wk_room hL hdp)
  have hrun := vx_runV (g := F0 m pc ls ((As.reverse ++ vR (some a) :: st).map wk_v)) (rest := st.map wk_v) (b := a) (As := As.map wk_v) (H := H) (locs := locs) (cells := cells) (slots := slots) (p := p) (e := e) (below := below) (meth := meth) ⟨X.1, X.2.1, rfl, X.2.2.2.2.2.1, X.2.2.2.2.2.2.1⟩ (hC l X.2.2.2.2.2.2.2.2.2.2.1) cw
    ⟨wk_blind, ⟨cell, g1, by rw [g2]; rfl, by rw [← hk.2.2]; exact g3⟩, wk_pre hR hS X.2.2.2.2.2.2.2.1⟩ rfl (by rw [List.length_map]; exact hn) (by rw [X.2.2.1]; exact hl.1) (by simp [wk_v, va_rf]) (by show 2 * 0 + _ ≤ 8; rw [wk_ct_eq]; omega) hd ⟨by show cells + b' ≤ j.2.1; omega, by show slots + 12 * b' ≤ 12 * j.2.1; omega⟩
  exact wk_ofRun X hS hc hs hl hb hrun kr kx
/-- a static call -/
theorem wk_callS {M' : MI} {d' b' n idx : Nat} {As : List WV} {P : Option WV → GH → Prop} {PX : String → Nat → GH → Prop} (hC : wk_C w M' d' b' As G P PX) (hh : M'.2.2.2.2 = [])
    (h1 : Cond.methodLink M.1.cls idx M'.1 ∈ lw_all) (h2 : Cond.static M'.1 ∈ lw_all) (h4 : Cond.initialized M'.1.cls ∈ lw_all) (h5 : wk_hd M' ∈ lw_all) (h6 : wk_md M' n) (hL : M'.2.2.1 ≤ 31)
    (hn : As.length = n) (hst : st0 = As.reverse ++ st) (hcat : wk_ct st ≤ 8) (hdp : d' + 1 ≤ j.1) (hb : b' ≤ r) (hd : decode M.2.1 pc = .ok (.invokestatic idx, 3))
    (kr : ∀ v G', P v G' → wk_V w M j (pc + 3) lv (v.toList ++ st) G' (r - b')) (kx : ∀ E q G', PX E q G' → wk_T w M j pc lv G' (r - b') E q) : wk_V w M j pc lv st0 G r := by
  intro p l e s m args below meth c X H locs cells slots ls hR hS hc hs hl
  obtain ⟨y, cc, nL, ret, hdl⟩ := M'
  have hh' : hdl = [] := hh
  subst hh' hst
  have hGS : GoodIn lw_all (va_wsS M.1.cls idx y (wk_hd (y, cc, nL, ret, []) :: lw_all)) := lw_app (fun x hx => by
    simp only [List.mem_cons, List.not_mem_nil, or_false] at hx
    rcases hx with e | e | e
    · rw [e]; exact h1
    · rw [e]; exact h2
    · rw [e]; exact h4) (wk_good h5)
  have cw := va_cwS (R := wk_rm j.1 j.2.1) (rm := wk_rm d' b') (mc := b') (ms := 12 * b') (bytes := cc) (maxL := nL) (ret := ret) n X.2.2.2.2.2.2.1 hGS rfl rfl rfl h6 (wk_room hL hdp)
  have hrun := vx_runS (g := F0 m pc ls ((As.reverse ++ st).map wk_v)) (rest := st.map wk_v) (As := As.map wk_v) (H := H) (locs := locs) (cells := cells) (slots := slots) (p := p) (e := e) (below := below) (meth := meth) ⟨X.1, X.2.1, rfl, X.2.2.2.2.2.1, X.2.2.2.2.2.2.1⟩ (hC l X.2.2.2.2.2.2.2.2.2.2.1) cw
    ⟨wk_blind, wk_pre hR hS X.2.2.2.2.2.2.2.1⟩ rfl (by rw [List.length_map]; exact hn) (by rw [X.2.2.1]; exact hl.1) (by simp) (by show 2 * 0 + _ ≤ 8; rw [wk_ct_eq]; omega) hd ⟨by show cells + b' ≤ j.2.1; omega, by show slots + 12 * b' ≤ 12 * j.2.1; omega⟩
  exact wk_ofRun X hS hc hs hl hb hrun kr kx
/-- a constructor's call -/
theorem wk_callI {M' : MI} {d' b' n a idx : Nat} {As : List WV} {P : Option WV → GH → Prop} {PX : String → Nat → GH → Prop} (hC : wk_C w M' d' b' (vR (some a) :: As) G P PX) (hh : M'.2.2.2.2 = []) (hret : M'.2.2.2.1 = none) (hnm : M'.1.name = "<init>")
    (h1 : Cond.methodLink M.1.cls idx M'.1 ∈ lw_all) (h2 : Cond.instanceMethod M'.1 ∈ lw_all) (h4 : Cond.initialized M'.1.cls ∈ lw_all) (h5 : wk_hd M' ∈ lw_all) (h6 : wk_md M' n) (hL : M'.2.2.1 ≤ 31)
    (hn : As.length = n) (hst : st0 = As.reverse ++ vR (some a) :: st) (hcat : wk_ct st ≤ 8) (hdp : d' + 1 ≤ j.1) (hb : b' ≤ r) (hd : decode M.2.1 pc = .ok (.invokespecial idx, 3))
    (kr : ∀ v G', P v G' → wk_V w M j (pc + 3) lv (v.toList ++ st) G' (r - b')) (kx : ∀ E q G', PX E q G' → wk_T w M j pc lv G' (r - b') E q) : wk_V w M j pc lv st0 G r := by
  intro p l e s m args below meth c X H locs cells slots ls hR hS hc hs hl
  obtain ⟨y, cc, nL, ret, hdl⟩ := M'
  have hh' : hdl = [] := hh
  have hret' : ret = none := hret
  subst hh' hst hret'
  have hts := X.2.2.2.2.2.2.1
  have cw := cwI (R := wk_rm j.1 j.2.1) (rm := wk_rm d' b') (mc := b') (ms := 12 * b') (own := M.1.cls) (index := idx) (bytes := cc) (maxL := nL) n hts (wk_good h5) rfl rfl rfl (hts _ h4) (hts _ h1) (hts _ h2) hnm h6 (wk_room hL hdp)
  have hrun := vx_runI (g := F0 m pc ls ((As.reverse ++ vR (some a) :: st).map wk_v)) (rest := st.map wk_v) (b := a) (As := As.map wk_v) (H := H) (locs := locs) (cells := cells) (slots := slots) (p := p) (e := e) (below := below) (meth := meth) ⟨X.1, X.2.1, rfl, X.2.2.2.2.2.1, X.2.2.2.2.2.2.1⟩ (hC l X.2.2.2.2.2.2.2.2.2.2.1) cw
    ⟨wk_blind, wk_pre hR hS X.2.2.2.2.2.2.2.1⟩ rfl (by rw [List.length_map]; exact hn) (by rw [X.2.2.1]; exact hl.1) (by simp [wk_v, va_rf]) (by show 2 * 0 + _ ≤ 8; rw [wk_ct_eq]; omega) hd ⟨by show cells + b' ≤ j.2.1; omega, by show slots + 12 * b' ≤ 12 * j.2.1; omega⟩
  exact wk_ofRun X hS hc hs hl hb hrun kr kx
/-- a nest mate's private constructor -/
theorem wk_callIN {M' : MI} {d' b' n a idx : Nat} {host : String} {As : List WV} {P : Option WV → GH → Prop} {PX : String → Nat → GH → Prop} (hC : wk_C w M' d' b' (vR (some a) :: As) G P PX) (hh : M'.2.2.2.2 = []) (hret : M'.2.2.2.1 = none) (hnm : M'.1.name = "<init>")
    (h1 : (M.1.cls, idx, M'.1, host) ∈ hp_nmL) (h2 : Cond.instanceMethod M'.1 ∈ lw_all) (h4 : Cond.initialized M'.1.cls ∈ lw_all) (h5 : wk_hd M' ∈ lw_all) (h6 : wk_md M' n) (hL : M'.2.2.1 ≤ 31)
    (hn : As.length = n) (hst : st0 = As.reverse ++ vR (some a) :: st) (hcat : wk_ct st ≤ 8) (hdp : d' + 1 ≤ j.1) (hb : b' ≤ r) (hd : decode M.2.1 pc = .ok (.invokespecial idx, 3))
    (kr : ∀ v G', P v G' → wk_V w M j (pc + 3) lv (v.toList ++ st) G' (r - b')) (kx : ∀ E q G', PX E q G' → wk_T w M j pc lv G' (r - b') E q) : wk_V w M j pc lv st0 G r := by
  intro p l e s m args below meth c X H locs cells slots ls hR hS hc hs hl
  obtain ⟨y, cc, nL, ret, hdl⟩ := M'
  have hh' : hdl = [] := hh
  have hret' : ret = none := hret
  subst hh' hst hret'
  have hts := X.2.2.2.2.2.2.1
  have cn := va_cnB (R := wk_rm j.1 j.2.1) (rm := wk_rm d' b') (mc := b') (ms := 12 * b') (own := M.1.cls) (index := idx) (bytes := cc) (maxL := nL) (ret := none) n hts (wk_good h5) rfl rfl rfl (X.2.2.2.2.2.2.2.1.2.2.2.2.2.2.2.2.1 _ h1) (hts _ h4) h6 (wk_room hL hdp)
  have hrun := vx_runIN (g := F0 m pc ls ((As.reverse ++ vR (some a) :: st).map wk_v)) (rest := st.map wk_v) (b := a) (As := As.map wk_v) (H := H) (locs := locs) (cells := cells) (slots := slots) (p := p) (e := e) (below := below) (meth := meth) ⟨X.1, X.2.1, rfl, X.2.2.2.2.2.1, hts⟩ (hC l X.2.2.2.2.2.2.2.2.2.2.1) ⟨cn, hnm, hts _ h2⟩
    ⟨wk_blind, wk_pre hR hS X.2.2.2.2.2.2.2.1⟩ rfl (by rw [List.length_map]; exact hn) (by rw [X.2.2.1]; exact hl.1) (by simp [wk_v, va_rf]) (by show 2 * 0 + _ ≤ 8; rw [wk_ct_eq]; omega) hd ⟨by show cells + b' ≤ j.2.1; omega, by show slots + 12 * b' ≤ 12 * j.2.1; omega⟩
  exact wk_ofRun X hS hc hs hl hb hrun kr kx
/-- a nest mate's private static method -/
theorem wk_callSN {M' : MI} {d' b' n idx : Nat} {host : String} {As : List WV} {P : Option WV → GH → Prop} {PX : String → Nat → GH → Prop} (hC : wk_C w M' d' b' As G P PX) (hh : M'.2.2.2.2 = [])
    (h1 : (M.1.cls, idx, M'.1, host) ∈ hp_nmL) (h2 : Cond.static M'.1 ∈ lw_all) (h4 : Cond.initialized M'.1.cls ∈ lw_all) (h5 : wk_hd M' ∈ lw_all) (h6 : wk_md M' n) (hL : M'.2.2.1 ≤ 31)
    (hn : As.length = n) (hst : st0 = As.reverse ++ st) (hcat : wk_ct st ≤ 8) (hdp : d' + 1 ≤ j.1) (hb : b' ≤ r) (hd : decode M.2.1 pc = .ok (.invokestatic idx, 3))
    (kr : ∀ v G', P v G' → wk_V w M j (pc + 3) lv (v.toList ++ st) G' (r - b')) (kx : ∀ E q G', PX E q G' → wk_T w M j pc lv G' (r - b') E q) : wk_V w M j pc lv st0 G r := by
  intro p l e s m args below meth c X H locs cells slots ls hR hS hc hs hl
  obtain ⟨y, cc, nL, ret, hdl⟩ := M'
  have hh' : hdl = [] := hh
  subst hh' hst
  have hts := X.2.2.2.2.2.2.1
  have cn := va_cnB (R := wk_rm j.1 j.2.1) (rm := wk_rm d' b') (mc := b') (ms := 12 * b') (own := M.1.cls) (index := idx) (bytes := cc) (maxL := nL) (ret := ret) n hts (wk_good h5) rfl rfl rfl (X.2.2.2.2.2.2.2.1.2.2.2.2.2.2.2.2.1 _ h1) (hts _ h4) h6 (wk_room hL hdp)
  have hrun := vx_runSN (g := F0 m pc ls ((As.reverse ++ st).map wk_v)) (rest := st.map wk_v) (As := As.map wk_v) (H := H) (locs := locs) (cells := cells) (slots := slots) (p := p) (e := e) (below := below) (meth := meth) ⟨X.1, X.2.1, rfl, X.2.2.2.2.2.1, hts⟩ (hC l X.2.2.2.2.2.2.2.2.2.2.1) ⟨cn, hts _ h2, trivial⟩
    ⟨wk_blind, wk_pre hR hS X.2.2.2.2.2.2.2.1⟩ rfl (by rw [List.length_map]; exact hn) (by rw [X.2.2.1]; exact hl.1) (by simp) (by show 2 * 0 + _ ≤ 8; rw [wk_ct_eq]; omega) hd ⟨by show cells + b' ≤ j.2.1; omega, by show slots + 12 * b' ≤ 12 * j.2.1; omega⟩
  exact wk_ofRun X hS hc hs hl hb hrun kr kx
/-- the method that a reference names is declared there, with code or without -/
def hp_dcl (x : MethodName) : Prop := x ∈ hp_dcL ∨ (Cond.instanceMethod x ∈ lw_all ∧ ∃ (b : ByteArray) (n : Nat) (rt : Option FieldType), Cond.code x b n rt ∈ lw_all)
/-- a call of x, found by the receiver's class: x stands in the class owner; M' is the method (of a class above or the receiver's own) -/
theorem wk_callU {M' : MI} {x : MethodName} (owner : String) {d' b' n a idx : Nat} {As : List WV} {P : Option WV → GH → Prop} {PX : String → Nat → GH → Prop} (hC : wk_C w M' d' b' (vR (some a) :: As) G P PX) (hh : M'.2.2.2.2 = [])
    (hdl : hp_dcl ⟨owner, x.name, x.desc⟩) (h1 : Cond.methodLink M.1.cls idx x ∈ lw_all) (h0 : Cond.sameMethod x.cls owner x.name x.desc ∈ lw_all) (h2 : Cond.instanceMethod M'.1 ∈ lw_all) (h3 : Cond.selects (hp_C (hp_kd G a)) x M'.1 ∈ lw_all) (h4 : Cond.initialized M'.1.cls ∈ lw_all) (h5 : wk_hd M' ∈ lw_all)
    (h6 : owner ≠ "java/lang/invoke/MethodHandle" ∧ owner ≠ "java/lang/invoke/VarHandle" ∧ (parseMethodDescriptor x.desc).map (fun d => d.parameters.length) = some n) (hL : M'.2.2.1 ≤ 31)
    (hk : hp_kd G a ≠ 0 ∧ hp_kd G a < 28) (hn : As.length = n) (hst : st0 = As.reverse ++ vR (some a) :: st) (hcat : wk_ct st ≤ 8) (hdp : d' + 1 ≤ j.1) (hb : b' ≤ r) (hd : decode M.2.1 pc = .ok (.invokevirtual idx, 3))
    (kr : ∀ v G', P v G' → wk_V w M j (pc + 3) lv (v.toList ++ st) G' (r - b')) (kx : ∀ E q G', PX E q G' → wk_T w M j pc lv G' (r - b') E q) : wk_V w M j pc lv st0 G r := by
  intro p l e s m args below meth c X H locs cells slots ls hR hS hc hs hl
  obtain ⟨y, cc, nL, ret, hdl9⟩ := M'
  have hh' : hdl9 = [] := hh
  subst hh' hst
  have hts := X.2.2.2.2.2.2.1
  obtain ⟨cell, g1, g2, g3, -⟩ := hp_ref hR X.2.2.2.2.2.2.2.1 hk.1 hk.2
  have hdec : va_Decl s ⟨owner, x.name, x.desc⟩ := by
    rcases hdl with h | ⟨h, b9, n9, r9, h'⟩
    · exact Cond.declares_spec (va_Nw.use (A := #[]) rfl (X.2.2.2.2.2.2.2.1.2.2.2.2.2.2.2.2.2.2.2.1 _ h))
    · exact va_Decl.of (hts _ h) (hts _ h')
  have hG := wk_good h5
  have hrm := wk_room (d' := d') (b' := b') (d := j.1) (b := j.2.1) hL hdp
  have cw : va_CU (wk_rm j.1 j.2.1) s args M.1.cls (hp_C (hp_kd G a)) owner idx x y cc nL ret (wk_hd (y, cc, nL, ret, []) :: lw_all) (wk_rm d' b') b' (12 * b') n :=
    ⟨⟨rfl, rfl, hrm.1, hrm.2, pay_in hts hG, List.mem_cons_self⟩, hts _ h5, hts _ h4, ⟨h6.1, h6.2.1⟩, fun sig h => by
      have h2 := h6.2.2
      rw [h] at h2
      exact (Option.some.inj h2).symm, hts _ h1, hts _ h0, hdec, hts _ h3, hts _ h2⟩
  have hrun := vx_runU (g := F0 m pc ls ((As.reverse ++ vR (some a) :: st).map wk_v)) (rest := st.map wk_v) (b := a) (As := As.map wk_v) (H := H) (locs := locs) (cells := cells) (slots := slots) (p := p) (e := e) (below := below) (meth := meth) ⟨X.1, X.2.1, rfl, X.2.2.2.2.2.1, hts⟩ (hC l X.2.2.2.2.2.2.2.2.2.2.1) cw
    ⟨wk_blind, ⟨cell, g1, by rw [g2]; rfl, g3⟩, wk_pre hR hS X.2.2.2.2.2.2.2.1⟩ rfl (by rw [List.length_map]; exact hn) (by rw [X.2.2.1]; exact hl.1) (by simp [wk_v, va_rf]) (by show 2 * 0 + _ ≤ 8; rw [wk_ct_eq]; omega) hd ⟨by show cells + b' ≤ j.2.1; omega, by show slots + 12 * b' ≤ 12 * j.2.1; omega⟩
  exact wk_ofRun X hS hc hs hl hb hrun kr kx
/-- a call of an interface's x -/
theorem wk_callF {M' : MI} {x : MethodName} {d' b' n a idx cnt : Nat} {As : List WV} {P : Option WV → GH → Prop} {PX : String → Nat → GH → Prop} (hC : wk_C w M' d' b' (vR (some a) :: As) G P PX) (hh : M'.2.2.2.2 = [])
    (hF : (hp_C (hp_kd G a), x, M'.1) ∈ hp_fwL) (h1 : Cond.methodLink M.1.cls idx x ∈ lw_all) (h2 : Cond.instanceMethod M'.1 ∈ lw_all) (h3 : Cond.selects (hp_C (hp_kd G a)) x M'.1 ∈ lw_all) (h4 : Cond.initialized M'.1.cls ∈ lw_all) (h5 : wk_hd M' ∈ lw_all) (h6 : wk_md (x, M'.2) n) (hL : M'.2.2.1 ≤ 31)
    (hk : hp_kd G a ≠ 0 ∧ hp_kd G a < 28) (hn : As.length = n) (hst : st0 = As.reverse ++ vR (some a) :: st) (hcat : wk_ct st ≤ 8) (hdp : d' + 1 ≤ j.1) (hb : b' ≤ r) (hd : decode M.2.1 pc = .ok (.invokeinterface idx cnt, 5))
    (kr : ∀ v G', P v G' → wk_V w M j (pc + 5) lv (v.toList ++ st) G' (r - b')) (kx : ∀ E q G', PX E q G' → wk_T w M j pc lv G' (r - b') E q) : wk_V w M j pc lv st0 G r := by
  intro p l e s m args below meth c X H locs cells slots ls hR hS hc hs hl
  obtain ⟨y, cc, nL, ret, hdl⟩ := M'
  have hh' : hdl = [] := hh
  subst hh' hst
  have hts := X.2.2.2.2.2.2.1
  have hK := X.2.2.2.2.2.2.2.1
  obtain ⟨cell, g1, g2, g3, -⟩ := hp_ref hR hK hk.1 hk.2
  have hGF : GoodIn lw_all (va_wsF M.1.cls idx (hp_C (hp_kd G a)) x y (wk_hd (y, cc, nL, ret, []) :: lw_all)) := lw_app (fun x hx => by
    simp only [List.mem_cons, List.not_mem_nil, or_false] at hx
    rcases hx with e | e | e | e
    · rw [e]; exact h1
    · rw [e]; exact h3
    · rw [e]; exact h2
    · rw [e]; exact h4) (wk_good h5)
  have cw := va_cwF (R := wk_rm j.1 j.2.1) (rm := wk_rm d' b') (mc := b') (ms := 12 * b') (own := M.1.cls) (index := idx) (bytes := cc) (maxL := nL) (ret := ret) n hts hGF rfl rfl rfl (hK.2.2.2.2.2.2.2.2.2.1 _ hF) h6 (wk_room hL hdp)
  have hrun := vx_runF (g := F0 m pc ls ((As.reverse ++ vR (some a) :: st).map wk_v)) (rest := st.map wk_v) (b := a) (As := As.map wk_v) (H := H) (locs := locs) (cells := cells) (slots := slots) (p := p) (e := e) (below := below) (meth := meth) (hK.1 _ hk.2).2 ⟨X.1, X.2.1, rfl, X.2.2.2.2.2.1, hts⟩ (hC l X.2.2.2.2.2.2.2.2.2.2.1) cw
    ⟨wk_blind, ⟨cell, g1, by rw [g2]; rfl, g3⟩, wk_pre hR hS hK⟩ rfl (by rw [List.length_map]; exact hn) (by rw [X.2.2.1]; exact hl.1) (by simp [wk_v, va_rf]) (by show 2 * 0 + _ ≤ 8; rw [wk_ct_eq]; omega) hd ⟨by show cells + b' ≤ j.2.1; omega, by show slots + 12 * b' ≤ 12 * j.2.1; omega⟩
  exact wk_ofRun5 X hS hc hs hl hb hrun kr kx
/-- a call of a method with handlers, through an object of its class -/
theorem wk_callVW {M' : MI} {d' b' n a idx : Nat} {As : List WV} {P : Option WV → GH → Prop} {PX : String → Nat → GH → Prop} (hC : wk_C w M' d' b' (vR (some a) :: As) G P PX) (hh : wk_hd M' = .codeWith M'.1 M'.2.1 M'.2.2.1 M'.2.2.2.1 M'.2.2.2.2)
    (h1 : Cond.methodLink M.1.cls idx M'.1 ∈ lw_all) (h2 : Cond.instanceMethod M'.1 ∈ lw_all) (h3 : Cond.selects M'.1.cls M'.1 M'.1 ∈ lw_all) (h4 : Cond.initialized M'.1.cls ∈ lw_all) (h5 : wk_hd M' ∈ lw_all) (h6 : wk_md M' n) (hL : M'.2.2.1 ≤ 31)
    (hk : hp_kd G a ≠ 0 ∧ hp_kd G a < 28 ∧ hp_C (hp_kd G a) = M'.1.cls) (hn : As.length = n) (hst : st0 = As.reverse ++ vR (some a) :: st) (hcat : wk_ct st ≤ 8) (hdp : d' + 1 ≤ j.1) (hb : b' ≤ r) (hd : decode M.2.1 pc = .ok (.invokevirtual idx, 3))
    (kr : ∀ v G', P v G' → wk_V w M j (pc + 3) lv (v.toList ++ st) G' (r - b')) (kx : ∀ E q G', PX E q G' → wk_T w M j pc lv G' (r - b') E q) : wk_V w M j pc lv st0 G r := by
  intro p l e s m args below meth c X H locs cells slots ls hR hS hc hs hl
  obtain ⟨y, cc, nL, ret, hdl⟩ := M'
  subst hst
  obtain ⟨cell, g1, g2, g3, -⟩ := hp_ref hR X.2.2.2.2.2.2.2.1 hk.1 hk.2.1
  have hGV : GoodIn lw_all (wsV M.1.cls idx y.cls y (wk_hd (y, cc, nL, ret, hdl) :: lw_all)) := lw_app (fun x hx => by
    simp only [List.mem_cons, List.not_mem_nil, or_false] at hx
    rcases hx with e | e | e | e
    · rw [e]; exact h1
    · rw [e]; exact h2
    · rw [e]; exact h3
    · rw [e]; exact h4) (wk_good h5)
  have cw := vx_cwVW (R := wk_rm j.1 j.2.1) (rm := wk_rm d' b') (mc := b') (ms := 12 * b') (bytes := cc) (maxL := nL) (ret := ret) (hh := hdl) n X.2.2.2.2.2.2.1 hGV (by rw [hh]) rfl rfl ⟨rfl, h6⟩ (wk_room hL hdp)
  have hrun := vx_runVX (g := F0 m pc ls ((As.reverse ++ vR (some a) :: st).map wk_v)) (rest := st.map wk_v) (b := a) (As := As.map wk_v) (H := H) (locs := locs) (cells := cells) (slots := slots) (p := p) (e := e) (below := below) (meth := meth) ⟨X.1, X.2.1, rfl, X.2.2.2.2.2.1, X.2.2.2.2.2.2.1⟩ (hC l X.2.2.2.2.2.2.2.2.2.2.1) cw
    ⟨wk_blind, ⟨cell, g1, by rw [g2]; rfl, by rw [← hk.2.2]; exact g3⟩, wk_pre hR hS X.2.2.2.2.2.2.2.1⟩ rfl (by rw [List.length_map]; exact hn) (by rw [X.2.2.1]; exact hl.1) (by simp [wk_v, va_rf]) (by show 2 * 0 + _ ≤ 8; rw [wk_ct_eq]; omega) hd ⟨by show cells + b' ≤ j.2.1; omega, by show slots + 12 * b' ≤ 12 * j.2.1; omega⟩
  exact wk_ofRun X hS hc hs hl hb hrun kr kx
/-- a static call of a method with handlers -/
theorem wk_callSW {M' : MI} {d' b' n idx : Nat} {As : List WV} {P : Option WV → GH → Prop} {PX : String → Nat → GH → Prop} (hC : wk_C w M' d' b' As G P PX) (hh : wk_hd M' = .codeWith M'.1 M'.2.1 M'.2.2.1 M'.2.2.2.1 M'.2.2.2.2)
    (h1 : Cond.methodLink M.1.cls idx M'.1 ∈ lw_all) (h2 : Cond.static M'.1 ∈ lw_all) (h4 : Cond.initialized M'.1.cls ∈ lw_all) (h5 : wk_hd M' ∈ lw_all) (h6 : wk_md M' n) (hL : M'.2.2.1 ≤ 31)
    (hn : As.length = n) (hst : st0 = As.reverse ++ st) (hcat : wk_ct st ≤ 8) (hdp : d' + 1 ≤ j.1) (hb : b' ≤ r) (hd : decode M.2.1 pc = .ok (.invokestatic idx, 3))
    (kr : ∀ v G', P v G' → wk_V w M j (pc + 3) lv (v.toList ++ st) G' (r - b')) (kx : ∀ E q G', PX E q G' → wk_T w M j pc lv G' (r - b') E q) : wk_V w M j pc lv st0 G r := by
  intro p l e s m args below meth c X H locs cells slots ls hR hS hc hs hl
  obtain ⟨y, cc, nL, ret, hdl⟩ := M'
  subst hst
  have hGS : GoodIn lw_all (va_wsS M.1.cls idx y (wk_hd (y, cc, nL, ret, hdl) :: lw_all)) := lw_app (fun x hx => by
    simp only [List.mem_cons, List.not_mem_nil, or_false] at hx
    rcases hx with e | e | e
    · rw [e]; exact h1
    · rw [e]; exact h2
    · rw [e]; exact h4) (wk_good h5)
  have cw := vx_cwSW (R := wk_rm j.1 j.2.1) (rm := wk_rm d' b') (mc := b') (ms := 12 * b') (bytes := cc) (maxL := nL) (ret := ret) (hh := hdl) n X.2.2.2.2.2.2.1 hGS (by rw [hh]) rfl rfl h6 (wk_room hL hdp)
  have hrun := vx_runSX (g := F0 m pc ls ((As.reverse ++ st).map wk_v)) (rest := st.map wk_v) (As := As.map wk_v) (H := H) (locs := locs) (cells := cells) (slots := slots) (p := p) (e := e) (below := below) (meth := meth) ⟨X.1, X.2.1, rfl, X.2.2.2.2.2.1, X.2.2.2.2.2.2.1⟩ (hC l X.2.2.2.2.2.2.2.2.2.2.1) cw
    ⟨wk_blind, wk_pre hR hS X.2.2.2.2.2.2.2.1⟩ rfl (by rw [List.length_map]; exact hn) (by rw [X.2.2.1]; exact hl.1) (by simp) (by show 2 * 0 + _ ≤ 8; rw [wk_ct_eq]; omega) hd ⟨by show cells + b' ≤ j.2.1; omega, by show slots + 12 * b' ≤ 12 * j.2.1; omega⟩
  exact wk_ofRun X hS hc hs hl hb hrun kr kx
end
