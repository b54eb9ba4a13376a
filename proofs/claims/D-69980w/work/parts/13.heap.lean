/-! OWN LAYER, 5: rows of the heap -/
theorem hp_R.upd {w : WD} {G G' : GH} {H H' : Heap} {a : Nat} (h : hp_R w G H) (hct : hp_cs G' = H'.size ∧ hp_ss G' = hp_sl H') (hsz : H.size ≤ H'.size) (ho : ∀ b : Nat, b ≠ a → b < H.size → H'[b]? = H[b]?)
    (hk : ∀ b : Nat, b ≠ a → hp_kd G' b = hp_kd G b ∧ hp_ln G' b = hp_ln G b ∧ hp_i G' b = hp_i G b ∧ hp_r G' b = hp_r G b ∧ hp_l G' b = hp_l G b) (ha : hp_kd G' a ≠ 0 → hp_ce w G' a H' ∧ hp_kd G' a < 36) : hp_R w G' H' := by
  refine ⟨fun b hb => ?_, Nat.le_trans h.2.1 hsz, hct.1, hct.2⟩
  by_cases e : b = a
  · subst e
    exact ha hb
  · obtain ⟨e1, e2, e3, e4, e5⟩ := hk b e
    rw [e1] at hb
    obtain ⟨⟨c1, c2⟩, c3⟩ := h.1 b hb
    have hlt := h.lt hb
    refine ⟨⟨fun q => ?_, fun q => ?_⟩, by rw [e1]; exact c3⟩
    · rw [e1] at q
      rw [e1, e3, e4]
      exact (c1 q).kept (ho b e hlt)
    · rw [e1] at q
      rw [e1, e2, e3, e4, e5, ho b e hlt]
      exact c2 q
theorem hp_sI_ne {G : GH} {a k : Nat} {v : Int32} (b : Nat) (h : b ≠ a) : hp_kd (hp_sI G a k v) b = hp_kd G b ∧ hp_ln (hp_sI G a k v) b = hp_ln G b ∧ hp_i (hp_sI G a k v) b = hp_i G b ∧ hp_r (hp_sI G a k v) b = hp_r G b ∧ hp_l (hp_sI G a k v) b = hp_l G b :=
  ⟨rfl, rfl, by funext j; rw [hp_i_sI, if_neg h], rfl, rfl⟩
theorem hp_sR_ne {G : GH} {a k : Nat} {v : Option Nat} (b : Nat) (h : b ≠ a) : hp_kd (hp_sR G a k v) b = hp_kd G b ∧ hp_ln (hp_sR G a k v) b = hp_ln G b ∧ hp_i (hp_sR G a k v) b = hp_i G b ∧ hp_r (hp_sR G a k v) b = hp_r G b ∧ hp_l (hp_sR G a k v) b = hp_l G b :=
  ⟨rfl, rfl, rfl, by funext j; rw [hp_r_sR, if_neg h], rfl⟩
theorem hp_sL_ne {G : GH} {a k : Nat} {v : Int64} (b : Nat) (h : b ≠ a) : hp_kd (hp_sL G a k v) b = hp_kd G b ∧ hp_ln (hp_sL G a k v) b = hp_ln G b ∧ hp_i (hp_sL G a k v) b = hp_i G b ∧ hp_r (hp_sL G a k v) b = hp_r G b ∧ hp_l (hp_sL G a k v) b = hp_l G b :=
  ⟨rfl, rfl, rfl, rfl, by funext j; rw [hp_l_sL, if_neg h]⟩
theorem hp_nw_ne {G : GH} {a c n : Nat} (b : Nat) (h : b ≠ a) : hp_kd (hp_nw G a c n) b = hp_kd G b ∧ hp_ln (hp_nw G a c n) b = hp_ln G b ∧ hp_i (hp_nw G a c n) b = hp_i G b ∧ hp_r (hp_nw G a c n) b = hp_r G b ∧ hp_l (hp_nw G a c n) b = hp_l G b :=
  ⟨by rw [hp_kd_nw, if_neg h], by rw [hp_ln_nw, if_neg h], by funext j; rw [hp_i_nw, if_neg h], by funext j; rw [hp_r_nw, if_neg h], by funext j; rw [hp_l_nw, if_neg h]⟩
/-- a field's link: the class's entry idx names the field k of objects of kind c -/
def hp_FL (own : String) (idx c k : Nat) : Prop := c ≠ 0 ∧ c < 28 ∧ k < hp_N c ∧ ∃ ref : String, Cond.fieldLink own idx ref (hp_T c k).2.1 (hp_T c k).2.2.1 ∈ lw_all ∧ (ref = (hp_T c k).1 ∨ Cond.sameField ref (hp_T c k).1 (hp_T c k).2.1 (hp_T c k).2.2.1 ∈ lw_all)
def hp_isI (ty : FieldType) : Bool := match ty with
  | .object _ => false
  | .array _ => false
  | .float => false
  | .long => false
  | .double => false
  | _ => true
def hp_isR (ty : FieldType) : Bool := match ty with
  | .object _ => true
  | .array _ => true
  | _ => false
theorem hp_fvI {ty : FieldType} (h : hp_isI ty = true) (i : Int32) (r : Option Nat) : hp_fv ty i r = .int i := by cases ty <;> first | rfl | cases h
theorem hp_fvR {ty : FieldType} (h : hp_isR ty = true) (i : Int32) (r : Option Nat) : hp_fv ty i r = va_rf r := by cases ty <;> first | rfl | cases h
/-- an int that a field of the type ty holds as it is -/
def hp_ok (ty : FieldType) (x : Int32) : Prop := narrow ty (.int x) = .int x ∧ fits ty (.int x) = true
section
variable {w : WD} {M : MI} {j : JB} {pc r : Nat} {lv : List (Nat × WV)} {st : List WV} {G : GH}
theorem hp_same {s : State} {args : Array Value} {own : String} {idx c k : Nat} (hts : ∀ x ∈ lw_all, x.before args s = true) (h : hp_FL own idx c k) : ∃ ref : String, (Cond.fieldLink own idx ref (hp_T c k).2.1 (hp_T c k).2.2.1).before args s = true ∧ ∀ x, s.fieldFound? (hp_T c k).1 (hp_T c k).2.1 (hp_T c k).2.2.1 = some x → s.fieldFound? ref (hp_T c k).2.1 (hp_T c k).2.2.1 = some x := by
  obtain ⟨-, -, -, ref, h1, h2⟩ := h
  refine ⟨ref, hts _ h1, ?_⟩
  rcases h2 with e | h2
  · rw [e]; exact fun _ h => h
  · exact u_same (hts _ h2)
theorem wk_get0 {c k a : Nat} {v : WV} {idx : Nat} (hF : hp_FL M.1.cls idx c k) (hk : hp_kd G a = c) (hv : wk_v v = hp_fv (hp_ty c k) (hp_i G a k) (hp_r G a k)) (hd : decode M.2.1 pc = .ok (.getfield idx, 3)) (k' : wk_V w M j (pc + 3) lv (v :: st) G r) : wk_V w M j pc lv (vR (some a) :: st) G r := by
  intro p l e s m args below meth c9 X H locs cells slots ls hR hS hc hs hl
  obtain ⟨hx, hb, -, -, -, hown, hts, hK, -⟩ := id X
  obtain ⟨ref, hlink, hsame⟩ := hp_same hts hF
  obtain ⟨c0, c1, c2, -⟩ := hF
  subst hk
  obtain ⟨⟨h1, -⟩, -⟩ := hR.1 a c0
  obtain ⟨cell, q1, q2, q3, q4⟩ := h1 c1
  obtain ⟨hSl, hfc, kC, hkC, hkind⟩ := hK.1 _ c1
  obtain ⟨cf, kf, fi, f, hi, hsl⟩ := hSl k c2
  refine W.getf hx hb hown hlink (hsame _ hi) (u_facts hfc hkC (u_lays hts (hp_inA _ c1) c2) hi).1 q1 (by rw [q3]; exact fun h => by cases h) (v := wk_v v) ?_ rfl rfl hd (k' p l e s m args below meth c9 X H locs cells slots ls hR hS hc hs hl)
  rw [hsl, q4 k c2, hv]
theorem wk_getI (c k : Nat) {a : Nat} {idx : Nat} (hF : hp_FL M.1.cls idx c k) (hty : hp_isI (hp_ty c k) = true) (hk : hp_kd G a = c) (hd : decode M.2.1 pc = .ok (.getfield idx, 3)) (k' : wk_V w M j (pc + 3) lv (vI (hp_i G a k) :: st) G r) : wk_V w M j pc lv (vR (some a) :: st) G r :=
  wk_get0 (v := vI (hp_i G a k)) hF hk (hp_fvI hty _ _).symm hd k'
theorem wk_getR (c k : Nat) {a : Nat} {idx : Nat} (hF : hp_FL M.1.cls idx c k) (hty : hp_isR (hp_ty c k) = true) (hk : hp_kd G a = c) (hd : decode M.2.1 pc = .ok (.getfield idx, 3)) (k' : wk_V w M j (pc + 3) lv (vR (hp_r G a k) :: st) G r) : wk_V w M j pc lv (vR (some a) :: st) G r :=
  wk_get0 (v := vR (hp_r G a k)) hF hk (hp_fvR hty _ _).symm hd k'
/-- a store into a field: not final, or final in its class's own constructor -/
theorem wk_put0 {c k a : Nat} {v : WV} {idx : Nat} {i' : Int32} {r' : Option Nat} {G' : GH} (hF : hp_FL M.1.cls idx c k) (hk : hp_kd G a = c) (hA : hp_A w a) (hfin : (hp_T c k).2.2.2 = false ∨ (M.1.name = "<init>" ∧ (hp_T c k).1 = M.1.cls))
    (hn : narrow (hp_ty c k) (wk_v v) = wk_v v) (hf : fits (hp_ty c k) (wk_v v) = true) (hv : wk_v v = hp_fv (hp_ty c k) i' r')
    (h1 : ∀ b : Nat, b ≠ a → hp_kd G' b = hp_kd G b ∧ hp_ln G' b = hp_ln G b ∧ hp_i G' b = hp_i G b ∧ hp_r G' b = hp_r G b ∧ hp_l G' b = hp_l G b) (h2 : hp_kd G' a = hp_kd G a) (h2c : hp_cs G' = hp_cs G ∧ hp_ss G' = hp_ss G)
    (h3 : ∀ n : Nat, hp_fv (hp_ty c n) (hp_i G' a n) (hp_r G' a n) = if n = k then hp_fv (hp_ty c n) i' r' else hp_fv (hp_ty c n) (hp_i G a n) (hp_r G a n))
    (hd : decode M.2.1 pc = .ok (.putfield idx, 3)) (k' : wk_V w M j (pc + 3) lv st G' r) : wk_V w M j pc lv (v :: vR (some a) :: st) G r := by
  intro p l e s m args below meth c9 X H locs cells slots ls hR hS hc hs hl
  obtain ⟨hx, hb, -, -, -, hown, hts, hK, -, hnm, -⟩ := id X
  obtain ⟨ref, hlink, hsame⟩ := hp_same hts hF
  obtain ⟨c0, c1, c2, -⟩ := hF
  subst hk
  obtain ⟨⟨g1, -⟩, g3⟩ := hR.1 a c0
  obtain ⟨cell, q1, q2, q3, q4⟩ := g1 c1
  obtain ⟨hSl, hfc, kC, hkC, hkind⟩ := hK.1 _ c1
  obtain ⟨cf, kf, fi, f, hi, hsl⟩ := hSl k c2
  have hap : ∀ x y, x < hp_N (hp_kd G a) → y < hp_N (hp_kd G a) → x ≠ y → (w.1.2 (hp_kd G a)) x ≠ (w.1.2 (hp_kd G a)) y := by
    intro x y hx9 hy9 hne
    obtain ⟨_, _, _, fa, hia, ea⟩ := hSl x hx9
    obtain ⟨_, _, _, fb, hib, eb⟩ := hSl y hy9
    rw [← ea, ← eb]
    refine u_apart (u_lays hts (hp_inA _ c1) hx9) (u_lays hts (hp_inA _ c1) hy9) hia hib ?_
    rw [(State.fieldFound?_type hia (hp_ptA _ c1 x hx9)).1, (State.fieldFound?_type hib (hp_ptA _ c1 y hy9)).1]
    exact hp_nmA _ c1 x hx9 y hy9 hne
  have hst := (u_facts hfc hkC (u_lays hts (hp_inA _ c1) c2) hi).1
  have hslot : f.slot < cell.slots.size := by rw [hsl]; exact k2_hasslot (q4 k c2)
  have key : ∀ H' : Heap, H'[a]? = some (cell.setSlot f.slot (wk_v v)) → H'.size = H.size → (∀ q, q ≠ a → H'[q]? = H[q]?) → W p l e (wk_rm j.1 j.2.1) s m args below meth c9 H' (locs ++ [⟨a, f.slot⟩]) cells slots (vx_MQ below (wk_Q w j.2.2.1) (wk_X w j.2.2.2.1) args s j.2.1 (12 * j.2.1) (hp_A w)) (F0 m (pc + 3) ls (st.map wk_v)) := by
    intro H' e1 e2 e3
    have hct : hp_cs G' = H'.size ∧ hp_ss G' = hp_sl H' := ⟨by rw [h2c.1, hR.2.2.1, e2], by rw [h2c.2, hR.2.2.2]; exact (hp_sl_set q1 e1 (by simp [Cell.setSlot]) e3).symm⟩
    rw [hsl] at e1 ⊢
    refine k' p l e s m args below meth c9 X H' _ cells slots ls ?_ (hS.put e2 e3 hA) hc hs hl
    refine hR.upd (a := a) hct (by omega) (fun b hb _ => e3 b hb) h1 fun _ => ?_
    rw [h2]
    refine ⟨⟨fun _ => ?_, fun q => absurd q (by omega)⟩, g3⟩
    rw [h2]
    have h9 := t_OB.to (V' := fun n => hp_fv (hp_ty (hp_kd G a) n) (hp_i G' a n) (hp_r G' a n)) (⟨_, e1, q2, q3, t_set q4 hap c2 (wk_v v)⟩ : t_OB a _ _ _ H' (updV _ k (wk_v v))) (fun n _ => by
      show updV _ k (wk_v v) n = hp_fv (hp_ty (hp_kd G a) n) (hp_i G' a n) (hp_r G' a n)
      rw [h3 n]
      by_cases hnk : n = k
      · subst hnk
        rw [if_pos rfl, ← hv]
        simp [updV]
      · rw [if_neg hnk]
        simp [updV, hnk])
    exact h9
  by_cases hff : (hp_T (hp_kd G a) k).2.2.2 = true
  · obtain ⟨hin, hdecl⟩ : M.1.name = "<init>" ∧ (hp_T (hp_kd G a) k).1 = M.1.cls := by
      rcases hfin with q | q
      · rw [hff] at q; cases q
      · exact q
    have hlay := hts _ ((hp_inA _ c1) _ (u_in_lay c2))
    unfold u_lay at hlay
    rw [if_pos hff] at hlay
    have hcf : m.cls = cf := by
      obtain ⟨_, _, c', _, _, _, -, -, hf', -, -, -, hown2, -⟩ := Cond.laysFinal_spec hlay
      have e1 : c' = cf := by have := hi.symm.trans hf'; simp at this; exact this.1.symm
      rw [hdecl] at hown2
      rw [← e1]; exact Option.some.inj (hown.symm.trans hown2)
    have h6 := u_fits hfc hkC hkind (Or.inr hlay) hi (hp_ptA _ c1 k c2) hn hf
    exact W.putFinK hx hb hown hlink (hsame _ hi) hst hcf (hnm.trans hin) (by rw [q2]; exact h6) q1 q3 hslot rfl rfl hd key
  · have hff' : (hp_T (hp_kd G a) k).2.2.2 = false := by cases q : (hp_T (hp_kd G a) k).2.2.2 <;> simp_all
    have hlay := hts _ ((hp_inA _ c1) _ (u_in_lay c2))
    unfold u_lay at hlay
    rw [if_neg (by rw [hff']; decide)] at hlay
    have h6 := u_store hfc hkC hkind hlay hi (hp_ptA _ c1 k c2) hn hf
    exact W.putK hx hb (f := f) ⟨hown, hlink, ⟨_, _, _, hsame _ hi⟩, hst⟩ (by rw [q2]; exact h6) q1 q3 hslot rfl rfl hd key
theorem wk_putI (c k : Nat) {a : Nat} {x : Int32} {idx : Nat} (hF : hp_FL M.1.cls idx c k) (hty : hp_isI (hp_ty c k) = true) (hfin : (hp_T c k).2.2.2 = false ∨ (M.1.name = "<init>" ∧ (hp_T c k).1 = M.1.cls)) (hk : hp_kd G a = c) (hA : hp_A w a) (hok : hp_ok (hp_ty c k) x)
    (hd : decode M.2.1 pc = .ok (.putfield idx, 3)) (k' : wk_V w M j (pc + 3) lv st (hp_sI G a k x) r) : wk_V w M j pc lv (vI x :: vR (some a) :: st) G r :=
  wk_put0 (i' := x) (r' := none) hF hk hA hfin hok.1 hok.2 (hp_fvI hty _ _).symm hp_sI_ne rfl ⟨rfl, rfl⟩ (fun n => by
    rw [hp_i_sI, if_pos rfl, hp_r_sI]
    by_cases h : n = k
    · subst h; rw [if_pos rfl, if_pos rfl, hp_fvI hty, hp_fvI hty]
    · rw [if_neg h, if_neg h]) hd k'
theorem hp_fitR {ty : FieldType} (h : hp_isR ty = true) (x : Option Nat) : narrow ty (va_rf x) = va_rf x ∧ fits ty (va_rf x) = true := by
  cases ty <;> first | (cases x <;> exact ⟨rfl, rfl⟩) | (cases x <;> simp [narrow, fits, va_rf, Value.isRef]; done) | (exact absurd h (by decide))
theorem wk_putR (c k : Nat) {a : Nat} {x : Option Nat} {idx : Nat} (hF : hp_FL M.1.cls idx c k) (hty : hp_isR (hp_ty c k) = true) (hfin : (hp_T c k).2.2.2 = false ∨ (M.1.name = "<init>" ∧ (hp_T c k).1 = M.1.cls)) (hk : hp_kd G a = c) (hA : hp_A w a)
    (hd : decode M.2.1 pc = .ok (.putfield idx, 3)) (k' : wk_V w M j (pc + 3) lv st (hp_sR G a k x) r) : wk_V w M j pc lv (vR x :: vR (some a) :: st) G r :=
  wk_put0 (i' := 0) (r' := x) hF hk hA hfin (hp_fitR hty x).1 (hp_fitR hty x).2 (hp_fvR hty _ _).symm hp_sR_ne rfl ⟨rfl, rfl⟩ (fun n => by
    rw [hp_i_sR, hp_r_sR, if_pos rfl]
    by_cases h : n = k
    · subst h; rw [if_pos rfl, if_pos rfl, hp_fvR hty, hp_fvR hty]
    · rw [if_neg h, if_neg h]) hd k'
end
