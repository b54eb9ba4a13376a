/-! super.m(..): out of kit/laws/EXCEPTIONS.to-paste, with the thrown address; private methods of a class above; casts of arrays -/
/-! ===== BEGIN super.m(..) that may throw (follows va_callSU, va_runSU) ===== -/
section
variable {p : Program} {l : Launch} {e : Env} {R : Room} {s : State} {m : MethodId} {args : Array Value} {below : List Frame} {meth : Method} {c : Code} {H : Heap} {locs : List Loc} {cells slots : Nat}
theorem vx_callSU {T : State} {locs : List Loc} {cells slots : Nat} (X : Stand p l e R s m args below meth c T locs cells slots) (hexec : p.tables.exec = Jvm.exec) {own : String} {index : Nat} {y : MethodName} {bytes : ByteArray} {maxL : Nat} {ret : Option FieldType}
    (hown : s.vm.findClass own = some m.cls) (hlink : (Cond.methodLink own index y).before args s = true) (hsame : (Cond.sameMethod y.cls y.cls y.name y.desc).before args s = true) (hsup : (Cond.superclass own y.cls).before args s = true)
    (hinst : (Cond.instanceMethod y).before args s = true) (hcode : (Cond.code y bytes maxL ret).before args s = true) (hno : y.name ≠ "<init>")
    {W : Nat} {Pre : Pt → Array Value → Prop} {Post : Pt → Array Value → Option Value → Pt → Prop} {PostX : Pt → Array Value → Addr → Pt → Prop} (hK : vx_Back l R p e below s args y 3 W Pre Post PostX)
    {b : Addr} {cellB : Cell} {kB : Class} (hcell : T.heap[b]? = some cellB) (hobj : cellB.vm.isStatics = false) (hkB : s.vm.classes[cellB.cls]? = some kB)
    {g : JFrame} (hg : g.method = m) (hsize : g.locals.size = c.maxLocals) {argsL rest : List Value} (hlen : ∀ sig, parseMethodDescriptor y.desc = some sig → argsL.length = sig.parameters.length)
    (hstack : g.stack = argsL.reverse ++ .ref b :: rest) (hW : 2 * g.monitorRoom + (rest.map fun v => v.category).sum ≤ W) (hdg : decode c.code g.pc = .ok (.invokespecial index, 3))
    (hpre : ∀ vm₁, s.WarmedH vm₁ → Pre ⟨T.setVm vm₁, locs, cells, slots⟩ (Value.ref b :: argsL).toArray) :
    (∃ (v : Option Value) (vm₁ : Vm) (B : Pt), s.WarmedH vm₁ ∧ Stand p l e R s m args below meth c B.U B.locs B.cells B.slots ∧ Post ⟨T.setVm vm₁, locs, cells, slots⟩ (Value.ref b :: argsL).toArray v B ∧
      ∀ target, Steps p.tables e below (B.U.setTop { g with pc := g.pc + 3, stack := v.toList ++ rest }) target → Steps p.tables e below (T.setTop g) target) ∨
    (∃ (q : Addr) (vm₁ : Vm) (B : Pt), s.WarmedH vm₁ ∧ Stand p l e R s m args below meth c B.U B.locs B.cells B.slots ∧ PostX ⟨T.setVm vm₁, locs, cells, slots⟩ (Value.ref b :: argsL).toArray q B ∧
      Steps p.tables e below (T.setTop g) ((B.U.setTop { g with stack := rest }).pushFrame (.throwing q))) := by
  obtain ⟨mk, methM, hnamed, hmethM, hstM, habM⟩ := Cond.instanceMethod_spec hinst
  obtain ⟨methM', cM, hmethM', -, -, -, -, -, -, hsigM⟩ := Cond.code_spec hnamed hcode
  cases hmethM.symm.trans hmethM'
  obtain ⟨ps, dk, kp, hps, hdk, hkp, hsuper, -, -, hnid⟩ := Cond.superclass_spec hown hsup
  have hn : s.methodNamed? ⟨y.cls, y.name, y.desc⟩ = some mk := hnamed
  have hpm : ps = mk.cls := Option.some.inj (hps.symm.trans (findClass_of_methodNamed hnamed))
  have hsub : s.vm.isSubclass ps mk.cls = true := by rw [hpm]; simp [Vm.isSubclass, Vm.isSubclassAux]
  obtain ⟨vm₁, X₁, hstep₁⟩ := X.invokespecialUp hexec hown hlink hsame hn hmethM hstM habM hno hdk hnid hps hsuper hsub (a := b) (cell := cellB) hcell
    (fun z h => by rw [h] at hobj; cases hobj) hkB (g := g) hg (argsL := argsL) (rest := rest) (hlen _ hsigM) hstack hdg
  rcases hK m meth c ⟨T.setVm vm₁, locs, cells, slots⟩ { g with stack := rest } (.invokespecial index) mk (Value.ref b :: argsL).toArray X₁ hg hsize hdg hW (X₁.named hnamed) (hpre vm₁ X₁.warmed) with ⟨v, B, X', hpost, hsteps⟩ | ⟨q, B, X', hpost, hsteps⟩
  · exact Or.inl ⟨v, vm₁, B, X₁.warmed, X', hpost, fun target h => hstep₁ _ (by rw [doInvoke_state]; exact hsteps.trans h)⟩
  · exact Or.inr ⟨q, vm₁, B, X₁.warmed, X', hpost, hstep₁ _ (by rw [doInvoke_state]; exact hsteps)⟩
theorem vx_runSU {y : MethodName} {bytes cc : ByteArray} {maxL nL mc ms n index : Nat} {ret : Option FieldType} {ws : List Cond} {rm : Room} {Pc : Array Value → State → Prop} {Qc : Array Value → State → Outcome → State → Prop} {XC : String → Addr → State → State → Prop} {free : Addr → Prop} {Ts : List Cond} {own C : String} {cC : ClassId} {b : Addr} {As rest : List Value} {g : JFrame}
    (hat : ClassAt s C cC) (S : CallFix p m c cc nL s args Ts own) (hM : vx_Met l y ws rm Pc Qc XC mc ms free) (cw : va_CS R s args own index y bytes maxL ret ws rm mc ms n) (hp : PreV s H C b Pc As)
    (hg : g.method = m) (hn : As.length = n) (hsize : g.locals.size = nL) (hstack : g.stack = As.reverse ++ .ref b :: rest) (hW : 2 * g.monitorRoom + (rest.map fun v => v.category).sum ≤ 8) (hdg : decode cc g.pc = .ok (.invokespecial index, 3)) (hf : cells + mc ≤ R.cells ∧ slots + ms ≤ R.slots) :
    vx_Run p l e R s m args below meth c H locs cells slots mc ms g rest (Qc (Value.ref b :: As).toArray) XC free := by
  obtain ⟨⟨hrc, hrs, hfr, hlo, hws, hcw⟩, hl1, hl2, hl3, hl4, hini, hcode, hno, hlen⟩ := cw
  have hK : vx_Back l R p e below s args y 3 8 (PreOf R mc ms Pc) (PostOf Qc mc ms free) (vx_Post XC mc ms free) := vx_back (bytes := bytes) (maxL := maxL) (ret := ret) hM hp.1 hrc hrs hfr hlo hws hcw (fun a' U hW => word_at hW (Or.inl (by first | rfl | simp [Cond.onTables, Cond.keeps, Cond.steady])) hini)
  obtain ⟨hx, hb, hml, ho, -⟩ := S
  obtain ⟨-, ⟨cellB, hcB, hoB, hclB⟩, hPc⟩ := hp
  obtain ⟨hfc, kB, hkB, -⟩ := hat
  cases hfc.symm.trans hclB
  intro T hT X
  rcases vx_callSU X hx (bytes := bytes) (maxL := maxL) (ret := ret) ho hl1 hl2 hl3 hl4 hcode hno hK (by rw [hT]; exact hcB) hoB hkB hg (hsize.trans hml.symm) (argsL := As) (rest := rest) (fun sig h => hn.trans (hlen sig h)) hstack hW (by rw [hb]; exact hdg)
    (fun vm₁ hW₁ => ⟨hf.1, hf.2, hPc (T.setVm vm₁) hT hW₁⟩) with ⟨v, vm₁, ⟨U', l2, c2, s2⟩, hW₁, X', ⟨g', mk, t, L, e1, e2, hq, h1, hL, h2, h3⟩, st⟩ | ⟨q, vm₁, ⟨U', l2, c2, s2⟩, hW₁, X', ⟨g', mk, t, L, E, ce, e1, e2, hq, hce, hcv, hcl, h1, hL, h2, h3⟩, st⟩
  · dsimp only [Pt.U, Pt.locs, Pt.cells, Pt.slots] at X' e1 e2 h1 h2 h3 st
    subst h1; subst h2; subst h3
    exact Or.inl ⟨v, (T.setVm vm₁).calling g' mk (Value.ref b :: As).toArray, t, U', L, hT, X', hL, e1, e2, hq, st⟩
  · dsimp only [Pt.U, Pt.locs, Pt.cells, Pt.slots] at X' e1 e2 h1 h2 h3 st hcl
    subst h1; subst h2; subst h3
    exact Or.inr ⟨q, (T.setVm vm₁).calling g' mk (Value.ref b :: As).toArray, t, U', L, E, ce, hT, X', hL, e1, e2, hq, hce, hcv, vx_cls hW₁ hcl, st⟩
end
/-! ===== END ===== -/
section
variable {w : WD} {M : MI} {j : JB} {pc r : Nat} {lv : List (Nat × WV)} {st st0 : List WV} {G : GH}
theorem wk_castA (c : Nat) {a : Nat} {T : String} {idx : Nat} (h28 : 28 ≤ c) (hk : hp_kd G a = c) (hw : Cond.classLink M.1.cls idx T ∈ lw_all) (hT : "[" ++ (hp_at c).toString = T) (hd : decode M.2.1 pc = .ok (.checkcast idx, 3)) (k : wk_V w M j (pc + 3) lv (vR (some a) :: st) G r) : wk_V w M j pc lv (vR (some a) :: st) G r := by
  intro p l e s m args below meth c9 X H locs cells slots ls hR hS hc hs hl
  obtain ⟨h1, h2, h3⟩ := hp_arr (s := s) hR X.2.2.2.2.2.2.2.1 (a := a) (by omega)
  have hlt := (hR.1 a (by omega)).2
  rw [hk] at h1 h2 h3 hlt
  have hnm : s.vm.findClass T = some (w.2.1 c) := by
    rw [← hT]
    have : c = 28 ∨ c = 29 ∨ c = 30 ∨ c = 31 ∨ c = 32 ∨ c = 33 ∨ c = 34 ∨ c = 35 := by omega
    rcases this with rfl | rfl | rfl | rfl | rfl | rfl | rfl | rfl
    · exact h3
    · exact h3
    · exact h3
    · exact h3
    all_goals (obtain ⟨_, _, _, _, _, g4⟩ := h3; exact g4)
  have key : ∀ x : vp_A, H[a]? = some (vp_cell (w.2.1 c) x) → W p l e (wk_rm j.1 j.2.1) s m args below meth c9 H locs cells slots (vx_MQ below (wk_Q w j.2.2.1) (wk_X w j.2.2.2.1) args s j.2.1 (12 * j.2.1) (hp_A w)) (F0 m pc ls ((vR (some a) :: st).map wk_v)) := fun x hx =>
    va_castA (D := w.1) (cl := []) (ws := [(a, .inl (w.2.1 c, x))]) X.1 X.2.1 X.2.2.2.2.2.1 (X.2.2.2.2.2.2.1 _ hw) (fun i q hq => by
      cases i with
      | zero => cases hq; exact hx
      | succ i => cases hq) 0 rfl hnm hd (k p l e s m args below meth c9 X H locs cells slots ls hR hS hc hs hl)
  have : c = 28 ∨ c = 29 ∨ c = 30 ∨ c = 31 ∨ 32 ≤ c := by omega
  rcases this with rfl | rfl | rfl | rfl | h9
  · exact key (hp_ln G a, .inl (hp_i G a)) h1
  · exact key (hp_ln G a, .inl (hp_i G a)) h1
  · exact key (hp_ln G a, .inl (hp_i G a)) h1
  · exact key (hp_ln G a, .inr (.inl (hp_l G a))) h1
  · rw [hp_acR h9 hlt] at h1
    exact key (hp_ln G a, .inr (.inr (.inr (.inr (hp_r G a))))) h1
/-- a call of a private method of a class above the receiver's -/
theorem wk_callP {M' : MI} {d' b' n a idx : Nat} {As : List WV} {P : Option WV → GH → Prop} {PX : String → Nat → GH → Prop} (hC : wk_C w M' d' b' (vR (some a) :: As) G P PX) (hh : M'.2.2.2.2 = [])
    (h1 : Cond.methodLink M.1.cls idx M'.1 ∈ lw_all) (h0 : Cond.sameMethod M'.1.cls M'.1.cls M'.1.name M'.1.desc ∈ lw_all) (h2 : Cond.instanceMethod M'.1 ∈ lw_all) (h3 : M'.1 ∈ hp_pmL) (h4 : Cond.initialized M'.1.cls ∈ lw_all) (h5 : wk_hd M' ∈ lw_all)
    (h6 : wk_md M' n) (hL : M'.2.2.1 ≤ 31)
    (hk27 : hp_kd G a = 27) (hn : As.length = n) (hst : st0 = As.reverse ++ vR (some a) :: st) (hcat : wk_ct st ≤ 8) (hdp : d' + 1 ≤ j.1) (hb : b' ≤ r) (hd : decode M.2.1 pc = .ok (.invokevirtual idx, 3))
    (kr : ∀ v G', P v G' → wk_V w M j (pc + 3) lv (v.toList ++ st) G' (r - b')) (kx : ∀ E q G', PX E q G' → wk_T w M j pc lv G' (r - b') E q) : wk_V w M j pc lv st0 G r := by
  intro p l e s m args below meth c X H locs cells slots ls hR hS hc hs hl
  obtain ⟨y, cc, nL, ret, hdl9⟩ := M'
  have hh' : hdl9 = [] := hh
  subst hh' hst
  have hts := X.2.2.2.2.2.2.1
  have hk : hp_kd G a ≠ 0 ∧ hp_kd G a < 28 := by rw [hk27]; decide
  obtain ⟨cell, g1, g2, g3, -⟩ := hp_ref hR X.2.2.2.2.2.2.2.1 hk.1 hk.2
  have hG := wk_good h5
  have hrm := wk_room (d' := d') (b' := b') (d := j.1) (b := j.2.1) hL hdp
  have hsel : (Cond.selects (hp_C (hp_kd G a)) y y).before args s = true := by
    rw [hk27]
    exact va_Nw.use rfl (X.2.2.2.2.2.2.2.1.2.2.2.2.2.2.2.2.2.2.2.2.2.2.2 _ h3)
  have cw : va_CU (wk_rm j.1 j.2.1) s args M.1.cls (hp_C (hp_kd G a)) y.cls idx y y cc nL ret (wk_hd (y, cc, nL, ret, []) :: lw_all) (wk_rm d' b') b' (12 * b') n :=
    ⟨⟨rfl, rfl, hrm.1, hrm.2, pay_in hts hG, List.mem_cons_self⟩, hts _ h5, hts _ h4, ⟨h6.1, h6.2.1⟩, fun sig h => by
      have h2 := h6.2.2
      have h9 : parseMethodDescriptor y.desc = some sig := h
      rw [show ((y, cc, nL, ret, []) : MI).1.desc = y.desc from rfl, h9] at h2
      exact (Option.some.inj h2).symm, hts _ h1, hts _ h0, va_Decl.of (hts _ h2) (hts _ h5), hsel, hts _ h2⟩
  have hrun := vx_runU (g := F0 m pc ls ((As.reverse ++ vR (some a) :: st).map wk_v)) (rest := st.map wk_v) (b := a) (As := As.map wk_v) (H := H) (locs := locs) (cells := cells) (slots := slots) (p := p) (e := e) (below := below) (meth := meth) ⟨X.1, X.2.1, rfl, X.2.2.2.2.2.1, hts⟩ (hC l X.2.2.2.2.2.2.2.2.2.2.1) cw
    ⟨wk_blind, ⟨cell, g1, by rw [g2]; rfl, g3⟩, wk_pre hR hS X.2.2.2.2.2.2.2.1⟩ rfl (by rw [List.length_map]; exact hn) (by rw [X.2.2.1]; exact hl.1) (by simp [wk_v, va_rf]) (by show 2 * 0 + _ ≤ 8; rw [wk_ct_eq]; omega) hd ⟨by show cells + b' ≤ j.2.1; omega, by show slots + 12 * b' ≤ 12 * j.2.1; omega⟩
  exact wk_ofRun X hS hc hs hl hb hrun kr kx
/-- super.m(..) -/
theorem wk_callSU {M' : MI} {d' b' n a idx : Nat} {As : List WV} {P : Option WV → GH → Prop} {PX : String → Nat → GH → Prop} (hC : wk_C w M' d' b' (vR (some a) :: As) G P PX) (hh : M'.2.2.2.2 = [])
    (h1 : Cond.methodLink M.1.cls idx M'.1 ∈ lw_all) (h0 : Cond.sameMethod M'.1.cls M'.1.cls M'.1.name M'.1.desc ∈ lw_all) (h3 : Cond.superclass M.1.cls M'.1.cls ∈ lw_all) (h2 : Cond.instanceMethod M'.1 ∈ lw_all) (h4 : Cond.initialized M'.1.cls ∈ lw_all) (h5 : wk_hd M' ∈ lw_all)
    (h6 : M'.1.name ≠ "<init>" ∧ (parseMethodDescriptor M'.1.desc).map (fun d => d.parameters.length) = some n) (hL : M'.2.2.1 ≤ 31)
    (hk : hp_kd G a ≠ 0 ∧ hp_kd G a < 28) (hn : As.length = n) (hst : st0 = As.reverse ++ vR (some a) :: st) (hcat : wk_ct st ≤ 8) (hdp : d' + 1 ≤ j.1) (hb : b' ≤ r) (hd : decode M.2.1 pc = .ok (.invokespecial idx, 3))
    (kr : ∀ v G', P v G' → wk_V w M j (pc + 3) lv (v.toList ++ st) G' (r - b')) (kx : ∀ E q G', PX E q G' → wk_T w M j pc lv G' (r - b') E q) : wk_V w M j pc lv st0 G r := by
  intro p l e s m args below meth c X H locs cells slots ls hR hS hc hs hl
  obtain ⟨y, cc, nL, ret, hdl9⟩ := M'
  have hh' : hdl9 = [] := hh
  subst hh' hst
  have hts := X.2.2.2.2.2.2.1
  obtain ⟨cell, g1, g2, g3, -⟩ := hp_ref hR X.2.2.2.2.2.2.2.1 hk.1 hk.2
  have hGS : GoodIn lw_all (va_wsSU M.1.cls idx y (wk_hd (y, cc, nL, ret, []) :: lw_all)) := lw_app (fun x hx => by
    simp only [List.mem_cons, List.not_mem_nil, or_false] at hx
    rcases hx with e | e | e | e | e
    · rw [e]; exact h1
    · rw [e]; exact h0
    · rw [e]; exact h3
    · rw [e]; exact h2
    · rw [e]; exact h4) (wk_good h5)
  have cw := va_cwSU (R := wk_rm j.1 j.2.1) (rm := wk_rm d' b') (mc := b') (ms := 12 * b') (bytes := cc) (maxL := nL) (ret := ret) n hts hGS rfl rfl rfl h6 (wk_room hL hdp)
  have hrun := vx_runSU (g := F0 m pc ls ((As.reverse ++ vR (some a) :: st).map wk_v)) (rest := st.map wk_v) (b := a) (As := As.map wk_v) (H := H) (locs := locs) (cells := cells) (slots := slots) (p := p) (e := e) (below := below) (meth := meth) (X.2.2.2.2.2.2.2.1.1 _ hk.2).2 ⟨X.1, X.2.1, rfl, X.2.2.2.2.2.1, hts⟩ (hC l X.2.2.2.2.2.2.2.2.2.2.1) cw
    ⟨wk_blind, ⟨cell, g1, by rw [g2]; rfl, g3⟩, wk_pre hR hS X.2.2.2.2.2.2.2.1⟩ rfl (by rw [List.length_map]; exact hn) (by rw [X.2.2.1]; exact hl.1) (by simp [wk_v, va_rf]) (by show 2 * 0 + _ ≤ 8; rw [wk_ct_eq]; omega) hd ⟨by show cells + b' ≤ j.2.1; omega, by show slots + 12 * b' ≤ 12 * j.2.1; omega⟩
  exact wk_ofRun X hS hc hs hl hb hrun kr kx
end
