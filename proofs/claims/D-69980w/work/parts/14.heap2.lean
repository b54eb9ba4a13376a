/-! OWN LAYER, 6: arrays, new cells, statics, constants, casts, ends, throws -/
section
variable {w : WD} {M : MI} {j : JB} {pc r : Nat} {lv : List (Nat × WV)} {st : List WV} {G : GH}
theorem hp_ac_i (cA : ClassId) (n : Nat) (i : Nat → Int32) (r : Nat → Option Nat) (x : Nat → Int64) : hp_ac cA .int n i r x = arrV cA n (fun j => .int (i j)) := rfl
theorem hp_ac_b (cA : ClassId) (n : Nat) (i : Nat → Int32) (r : Nat → Option Nat) (x : Nat → Int64) : hp_ac cA .byte n i r x = arrV cA n (fun j => .int (i j)) := rfl
theorem hp_ac_z (cA : ClassId) (n : Nat) (i : Nat → Int32) (r : Nat → Option Nat) (x : Nat → Int64) : hp_ac cA .boolean n i r x = arrV cA n (fun j => .int (i j)) := rfl
theorem hp_ac_l (cA : ClassId) (n : Nat) (i : Nat → Int32) (r : Nat → Option Nat) (x : Nat → Int64) : hp_ac cA .long n i r x = arrV cA n (fun j => .long (x j)) := rfl
theorem hp_ac_o (cA : ClassId) (C : String) (n : Nat) (i : Nat → Int32) (r : Nat → Option Nat) (x : Nat → Int64) : hp_ac cA (.object C) n i r x = arrV cA n (fun j => va_rf (r j)) := rfl
theorem hp_ac_x (cA : ClassId) (ty : FieldType) (n : Nat) (i : Nat → Int32) (r : Nat → Option Nat) (x : Nat → Int64) : ∃ f : Nat → Value, hp_ac cA ty n i r x = arrV cA n f := by
  cases ty <;> first | exact ⟨fun j => .int (i j), rfl⟩ | exact ⟨fun j => va_rf (r j), rfl⟩ | exact ⟨fun j => .long (x j), rfl⟩
theorem hp_arr {H : Heap} {s : State} {a : Nat} (hR : hp_R w G H) (hK : hp_K w s) (h28 : 28 ≤ hp_kd G a) : H[a]? = some (hp_ac (w.2.1 (hp_kd G a)) (hp_at (hp_kd G a)) (hp_ln G a) (hp_i G a) (hp_r G a) (hp_l G a)) ∧ ArrOfT s (w.2.1 (hp_kd G a)) (hp_at (hp_kd G a)) ∧ va_RA s (w.2.1 (hp_kd G a)) (hp_at (hp_kd G a)) := by
  obtain ⟨⟨-, h2⟩, h3⟩ := hR.1 a (by omega)
  exact ⟨h2 h28, hK.2.1 _ h28 h3⟩
theorem hp_R.arr {H H' : Heap} {G' : GH} {a : Nat} (hR : hp_R w G H) (hz : H'.size = H.size) (ho : ∀ q : Nat, q ≠ a → H'[q]? = H[q]?) (h28 : 28 ≤ hp_kd G a)
    (hk : ∀ b : Nat, b ≠ a → hp_kd G' b = hp_kd G b ∧ hp_ln G' b = hp_ln G b ∧ hp_i G' b = hp_i G b ∧ hp_r G' b = hp_r G b ∧ hp_l G' b = hp_l G b) (h2 : hp_kd G' a = hp_kd G a) (h2c : hp_cs G' = hp_cs G ∧ hp_ss G' = hp_ss G ∧ hp_ln G' a = hp_ln G a)
    (hc : H'[a]? = some (hp_ac (w.2.1 (hp_kd G a)) (hp_at (hp_kd G a)) (hp_ln G' a) (hp_i G' a) (hp_r G' a) (hp_l G' a))) : hp_R w G' H' := by
  obtain ⟨⟨-, h4⟩, h3⟩ := hR.1 a (by omega)
  obtain ⟨f0, hf0⟩ := hp_ac_x (w.2.1 (hp_kd G a)) (hp_at (hp_kd G a)) (hp_ln G a) (hp_i G a) (hp_r G a) (hp_l G a)
  obtain ⟨f1, hf1⟩ := hp_ac_x (w.2.1 (hp_kd G a)) (hp_at (hp_kd G a)) (hp_ln G' a) (hp_i G' a) (hp_r G' a) (hp_l G' a)
  have hs9 := hp_sl_set (h4 h28) hc (by rw [hf0, hf1, arrV_size, arrV_size, h2c.2.2]) ho
  refine hR.upd (a := a) ⟨by rw [h2c.1, hR.2.2.1, hz], by rw [h2c.2.1, hR.2.2.2, hs9]⟩ (by omega) (fun b hb _ => ho b hb) hk fun _ => ⟨⟨fun q => ?_, fun _ => ?_⟩, by rw [h2]; exact h3⟩
  · rw [h2] at q; omega
  · rw [h2]; exact hc
theorem wk_iald {a : Nat} {i : Int32} (hk : hp_kd G a = 28) (hin : vp_in i (hp_ln G a)) (hd : decode M.2.1 pc = .ok (.iaload, 1)) (k : wk_V w M j (pc + 1) lv (vI (hp_i G a i.toNatClampNeg) :: st) G r) : wk_V w M j pc lv (vI i :: vR (some a) :: st) G r := by
  intro p l e s m args below meth c X H locs cells slots ls hR hS hc hs hl
  obtain ⟨h1, h2, -⟩ := hp_arr (s := s) hR X.2.2.2.2.2.2.2.1 (a := a) (by omega)
  rw [hk] at h1 h2
  exact W.iald (v := .int (hp_i G a i.toNatClampNeg)) X.1 X.2.1 h1 (h2 _ (fun j => .int (hp_i G a j))) (fun q => by cases q) (by show ¬ (i < 0 ∨ (arrV _ _ _).slots.size ≤ _); rw [arrV_size]; exact hin) (by show (arrV _ _ _).slots[_]? = _; rw [arrV_read _ _ (Nat.not_le.mp fun q => hin (Or.inr q))]) rfl rfl hd
    (k p l e s m args below meth c X H locs cells slots ls hR hS hc hs hl)
theorem wk_bald {a : Nat} {i : Int32} (hk : hp_kd G a = 30) (hin : vp_in i (hp_ln G a)) (hd : decode M.2.1 pc = .ok (.baload, 1)) (k : wk_V w M j (pc + 1) lv (vI (hp_i G a i.toNatClampNeg) :: st) G r) : wk_V w M j pc lv (vI i :: vR (some a) :: st) G r := by
  intro p l e s m args below meth c X H locs cells slots ls hR hS hc hs hl
  obtain ⟨h1, h2, -⟩ := hp_arr (s := s) hR X.2.2.2.2.2.2.2.1 (a := a) (by omega)
  rw [hk] at h1 h2
  exact W.bald (v := .int (hp_i G a i.toNatClampNeg)) X.1 X.2.1 h1 (h2 _ (fun j => .int (hp_i G a j))) (fun q => by cases q) (by show ¬ (i < 0 ∨ (arrV _ _ _).slots.size ≤ _); rw [arrV_size]; exact hin) (by show (arrV _ _ _).slots[_]? = _; rw [arrV_read _ _ (Nat.not_le.mp fun q => hin (Or.inr q))]) rfl rfl hd
    (k p l e s m args below meth c X H locs cells slots ls hR hS hc hs hl)
theorem wk_zald {a : Nat} {i : Int32} (hk : hp_kd G a = 29) (hin : vp_in i (hp_ln G a)) (hd : decode M.2.1 pc = .ok (.baload, 1)) (k : wk_V w M j (pc + 1) lv (vI (hp_i G a i.toNatClampNeg) :: st) G r) : wk_V w M j pc lv (vI i :: vR (some a) :: st) G r := by
  intro p l e s m args below meth c X H locs cells slots ls hR hS hc hs hl
  obtain ⟨h1, h2, -⟩ := hp_arr (s := s) hR X.2.2.2.2.2.2.2.1 (a := a) (by omega)
  rw [hk] at h1 h2
  exact W.zald (v := .int (hp_i G a i.toNatClampNeg)) X.1 X.2.1 h1 (h2 _ (fun j => .int (hp_i G a j))) (fun q => by cases q) (by show ¬ (i < 0 ∨ (arrV _ _ _).slots.size ≤ _); rw [arrV_size]; exact hin) (by show (arrV _ _ _).slots[_]? = _; rw [arrV_read _ _ (Nat.not_le.mp fun q => hin (Or.inr q))]) rfl rfl hd
    (k p l e s m args below meth c X H locs cells slots ls hR hS hc hs hl)
theorem wk_lald {a : Nat} {i : Int32} (hk : hp_kd G a = 31) (hin : vp_in i (hp_ln G a)) (hd : decode M.2.1 pc = .ok (.laload, 1)) (k : wk_V w M j (pc + 1) lv (vL (hp_l G a i.toNatClampNeg) :: st) G r) : wk_V w M j pc lv (vI i :: vR (some a) :: st) G r := by
  intro p l e s m args below meth c X H locs cells slots ls hR hS hc hs hl
  obtain ⟨h1, h2, -⟩ := hp_arr (s := s) hR X.2.2.2.2.2.2.2.1 (a := a) (by omega)
  rw [hk] at h1 h2
  exact W.lald (v := .long (hp_l G a i.toNatClampNeg)) X.1 X.2.1 h1 (h2 _ (fun j => .long (hp_l G a j))) (fun q => by cases q) (by show ¬ (i < 0 ∨ (arrV _ _ _).slots.size ≤ _); rw [arrV_size]; exact hin) (by show (arrV _ _ _).slots[_]? = _; rw [arrV_read _ _ (Nat.not_le.mp fun q => hin (Or.inr q))]) rfl rfl hd
    (k p l e s m args below meth c X H locs cells slots ls hR hS hc hs hl)
theorem hp_atR {c : Nat} (h : 32 ≤ c) (h2 : c < 36) : ∃ C : String, hp_at c = .object C := by
  have : c = 32 ∨ c = 33 ∨ c = 34 ∨ c = 35 := by omega
  rcases this with rfl | rfl | rfl | rfl <;> exact ⟨_, rfl⟩
theorem wk_aald {a : Nat} {i : Int32} (hk : 32 ≤ hp_kd G a) (hin : vp_in i (hp_ln G a)) (hd : decode M.2.1 pc = .ok (.aaload, 1)) (k : wk_V w M j (pc + 1) lv (vR (hp_r G a i.toNatClampNeg) :: st) G r) : wk_V w M j pc lv (vI i :: vR (some a) :: st) G r := by
  intro p l e s m args below meth c X H locs cells slots ls hR hS hc hs hl
  obtain ⟨h1, h2, -⟩ := hp_arr (s := s) hR X.2.2.2.2.2.2.2.1 (a := a) (by omega)
  obtain ⟨C, hC⟩ := hp_atR hk (hR.1 a (by omega)).2
  rw [hC] at h1 h2
  exact W.aald (v := va_rf (hp_r G a i.toNatClampNeg)) (ty := .object C) X.1 X.2.1 h1 (h2 _ (fun j => va_rf (hp_r G a j))) rfl (fun q => by cases q) (by show ¬ (i < 0 ∨ (arrV _ _ _).slots.size ≤ _); rw [arrV_size]; exact hin) (by show (arrV _ _ _).slots[_]? = _; rw [arrV_read _ _ (Nat.not_le.mp fun q => hin (Or.inr q))]) rfl rfl hd
    (k p l e s m args below meth c X H locs cells slots ls hR hS hc hs hl)
theorem wk_alen {a : Nat} (hk : 28 ≤ hp_kd G a) (hd : decode M.2.1 pc = .ok (.arraylength, 1)) (k : wk_V w M j (pc + 1) lv (vI (nI (hp_ln G a)) :: st) G r) : wk_V w M j pc lv (vR (some a) :: st) G r := by
  intro p l e s m args below meth c X H locs cells slots ls hR hS hc hs hl
  obtain ⟨h1, h2, -⟩ := hp_arr (s := s) hR X.2.2.2.2.2.2.2.1 (a := a) hk
  have hlt : hp_kd G a < 36 := (hR.1 a (by omega)).2
  obtain ⟨f, hf⟩ := hp_ac_x (w.2.1 (hp_kd G a)) (hp_at (hp_kd G a)) (hp_ln G a) (hp_i G a) (hp_r G a) (hp_l G a)
  rw [hf] at h1
  exact W.alen (n := nI (hp_ln G a)) X.1 X.2.1 h1 (h2 _ f) (by rw [arrV_size]; rfl) rfl rfl hd (k p l e s m args below meth c X H locs cells slots ls hR hS hc hs hl)
theorem wk_iast {a : Nat} {i x : Int32} (hk : hp_kd G a = 28) (hA : hp_A w a) (hin : vp_in i (hp_ln G a)) (hd : decode M.2.1 pc = .ok (.iastore, 1)) (k : wk_V w M j (pc + 1) lv st (hp_sI G a i.toNatClampNeg x) r) : wk_V w M j pc lv (vI x :: vI i :: vR (some a) :: st) G r := by
  intro p l e s m args below meth c X H locs cells slots ls hR hS hc hs hl
  obtain ⟨h1, h2, -⟩ := hp_arr (s := s) hR X.2.2.2.2.2.2.2.1 (a := a) (by omega)
  rw [hk] at h1 h2
  refine W.iast X.1 X.2.1 h1 (h2 _ (fun j => .int (hp_i G a j))) (fun q => by cases q) (by show ¬ (i < 0 ∨ (arrV _ _ _).slots.size ≤ _); rw [arrV_size]; exact hin) rfl rfl hd fun H1 e1 z oq => ?_
  refine k p l e s m args below meth c X H1 _ cells slots ls (hR.arr z oq (by omega) hp_sI_ne rfl ⟨rfl, rfl, rfl⟩ ?_) (hS.put z oq hA) hc hs hl
  rw [e1, hk]
  rw [show hp_at 28 = FieldType.int from rfl, hp_ac_i, hp_ac_i, arrV_store]
  congr 2
  funext q
  show updV _ _ _ q = .int (hp_i (hp_sI G a _ x) a q)
  rw [hp_i_sI, if_pos rfl]
  by_cases hq : q = i.toNatClampNeg <;> simp [updV, hq]
theorem wk_bast {a : Nat} {i x : Int32} (hk : hp_kd G a = 30) (hA : hp_A w a) (hin : vp_in i (hp_ln G a)) (hd : decode M.2.1 pc = .ok (.bastore, 1)) (k : wk_V w M j (pc + 1) lv st (hp_sI G a i.toNatClampNeg x.toInt8.toInt32) r) : wk_V w M j pc lv (vI x :: vI i :: vR (some a) :: st) G r := by
  intro p l e s m args below meth c X H locs cells slots ls hR hS hc hs hl
  obtain ⟨h1, h2, -⟩ := hp_arr (s := s) hR X.2.2.2.2.2.2.2.1 (a := a) (by omega)
  rw [hk] at h1 h2
  refine W.bast X.1 X.2.1 h1 (h2 _ (fun j => .int (hp_i G a j))) (fun q => by cases q) (by show ¬ (i < 0 ∨ (arrV _ _ _).slots.size ≤ _); rw [arrV_size]; exact hin) rfl rfl hd fun H1 e1 z oq => ?_
  refine k p l e s m args below meth c X H1 _ cells slots ls (hR.arr z oq (by omega) hp_sI_ne rfl ⟨rfl, rfl, rfl⟩ ?_) (hS.put z oq hA) hc hs hl
  rw [e1, hk]
  rw [show hp_at 30 = FieldType.byte from rfl, hp_ac_b, hp_ac_b, arrV_store]
  congr 2
  funext q
  show updV _ _ _ q = .int (hp_i (hp_sI G a _ _) a q)
  rw [hp_i_sI, if_pos rfl]
  by_cases hq : q = i.toNatClampNeg
  · subst hq
    simp [updV, narrow]
  · simp [updV, hq]
theorem wk_zast {a : Nat} {i x : Int32} (hk : hp_kd G a = 29) (hA : hp_A w a) (hin : vp_in i (hp_ln G a)) (hx01 : x = 0 ∨ x = 1) (hd : decode M.2.1 pc = .ok (.bastore, 1)) (k : wk_V w M j (pc + 1) lv st (hp_sI G a i.toNatClampNeg x) r) : wk_V w M j pc lv (vI x :: vI i :: vR (some a) :: st) G r := by
  intro p l e s m args below meth c X H locs cells slots ls hR hS hc hs hl
  obtain ⟨h1, h2, -⟩ := hp_arr (s := s) hR X.2.2.2.2.2.2.2.1 (a := a) (by omega)
  rw [hk] at h1 h2
  refine W.zast X.1 X.2.1 h1 (h2 _ (fun j => .int (hp_i G a j))) (fun q => by cases q) (by show ¬ (i < 0 ∨ (arrV _ _ _).slots.size ≤ _); rw [arrV_size]; exact hin) rfl rfl hd fun H1 e1 z oq => ?_
  refine k p l e s m args below meth c X H1 _ cells slots ls (hR.arr z oq (by omega) hp_sI_ne rfl ⟨rfl, rfl, rfl⟩ ?_) (hS.put z oq hA) hc hs hl
  rw [e1, hk]
  rw [show hp_at 29 = FieldType.boolean from rfl, hp_ac_z, hp_ac_z, arrV_store]
  congr 2
  funext q
  show updV _ _ _ q = .int (hp_i (hp_sI G a _ _) a q)
  rw [hp_i_sI, if_pos rfl]
  by_cases hq : q = i.toNatClampNeg
  · subst hq
    rcases hx01 with rfl | rfl <;> simp [updV, narrow] <;> rfl
  · simp [updV, hq]
theorem wk_last {a : Nat} {i : Int32} {x : Int64} (hk : hp_kd G a = 31) (hA : hp_A w a) (hin : vp_in i (hp_ln G a)) (hd : decode M.2.1 pc = .ok (.lastore, 1)) (k : wk_V w M j (pc + 1) lv st (hp_sL G a i.toNatClampNeg x) r) : wk_V w M j pc lv (vL x :: vI i :: vR (some a) :: st) G r := by
  intro p l e s m args below meth c X H locs cells slots ls hR hS hc hs hl
  obtain ⟨h1, h2, -⟩ := hp_arr (s := s) hR X.2.2.2.2.2.2.2.1 (a := a) (by omega)
  rw [hk] at h1 h2
  refine W.last X.1 X.2.1 h1 (h2 _ (fun j => .long (hp_l G a j))) (fun q => by cases q) (by show ¬ (i < 0 ∨ (arrV _ _ _).slots.size ≤ _); rw [arrV_size]; exact hin) rfl rfl hd fun H1 e1 z oq => ?_
  refine k p l e s m args below meth c X H1 _ cells slots ls (hR.arr z oq (by omega) hp_sL_ne rfl ⟨rfl, rfl, rfl⟩ ?_) (hS.put z oq hA) hc hs hl
  rw [e1, hk]
  rw [show hp_at 31 = FieldType.long from rfl, hp_ac_l, hp_ac_l, arrV_store]
  congr 2
  funext q
  show updV _ _ _ q = .long (hp_l (hp_sL G a _ x) a q)
  rw [hp_l_sL, if_pos rfl]
  by_cases hq : q = i.toNatClampNeg <;> simp [updV, hq]
/-- an object of the kind d may stand where the class T is asked for -/
def hp_sub (d : Nat) (T : String) : Prop := hp_C d = T ∨ (hp_C d, T) ∈ hp_caL
theorem hp_ref {H : Heap} {s : State} {a : Nat} (hR : hp_R w G H) (hK : hp_K w s) (h0 : hp_kd G a ≠ 0) (h28 : hp_kd G a < 28) : ∃ cell : Cell, H[a]? = some cell ∧ cell.vm = .none ∧ s.vm.findClass (hp_C (hp_kd G a)) = some cell.cls ∧ ∃ kC : Class, s.vm.classes[cell.cls]? = some kC ∧ kC.kind = .ordinary := by
  obtain ⟨⟨h1, -⟩, -⟩ := hR.1 a h0
  obtain ⟨cell, q1, q2, q3, -⟩ := h1 h28
  obtain ⟨-, hfc, kC, hkC, hkind⟩ := hK.1 _ h28
  exact ⟨cell, q1, q3, by rw [q2]; exact hfc, kC, by rw [q2]; exact hkC, hkind⟩
theorem hp_asg {s : State} {d : Nat} {T : String} {cd ct : ClassId} (hK : hp_K w s) (h28 : d < 28) (hs : hp_sub d T) (h1 : s.vm.findClass (hp_C d) = some cd) (h2 : s.vm.findClass T = some ct) : s.vm.assignable cd ct = true := by
  rcases hs with e | e
  · subst e
    cases h1.symm.trans h2
    obtain ⟨-, hcl⟩ := hK.1 _ h28
    have e9 := Option.some.inj (hcl.1.symm.trans h1)
    rw [← e9]
    exact va_assign hcl
  · obtain ⟨c0, t0, f1, f2, f3⟩ := Cond.castable_spec (va_Nw.use (A := #[]) rfl (hK.2.2.2.2.2.1 _ e))
    cases h1.symm.trans f1
    cases h2.symm.trans f2
    exact f3
theorem wk_aast {a : Nat} {i : Int32} {x : Option Nat} {T : String} (hk : 32 ≤ hp_kd G a) (hT : hp_at (hp_kd G a) = .object T) (hA : hp_A w a) (hin : vp_in i (hp_ln G a)) (hx : ∀ b, x = some b → hp_kd G b ≠ 0 ∧ hp_kd G b < 28 ∧ hp_sub (hp_kd G b) T)
    (hd : decode M.2.1 pc = .ok (.aastore, 1)) (k : wk_V w M j (pc + 1) lv st (hp_sR G a i.toNatClampNeg x) r) : wk_V w M j pc lv (vR x :: vI i :: vR (some a) :: st) G r := by
  intro p l e s m args below meth c X H locs cells slots ls hR hS hc hs hl
  have hK := X.2.2.2.2.2.2.2.1
  obtain ⟨h1, h2, h3⟩ := hp_arr (s := s) hR hK (a := a) (by omega)
  rw [hT] at h1 h2 h3
  have hlt : i.toNatClampNeg < hp_ln G a := Nat.not_le.mp fun q => hin (Or.inr q)
  have h0 : ¬ i < 0 := fun q => hin (Or.inl q)
  have key : ∀ H1 : Heap, H1[a]? = some ((hp_ac (w.2.1 (hp_kd G a)) (.object T) (hp_ln G a) (hp_i G a) (hp_r G a) (hp_l G a)).setSlot i.toNatClampNeg (va_rf x)) → H1.size = H.size → (∀ q, q ≠ a → H1[q]? = H[q]?) → W p l e (wk_rm j.1 j.2.1) s m args below meth c H1 (locs ++ [⟨a, i.toNatClampNeg⟩]) cells slots (vx_MQ below (wk_Q w j.2.2.1) (wk_X w j.2.2.2.1) args s j.2.1 (12 * j.2.1) (hp_A w)) (F0 m (pc + 1) ls (st.map wk_v)) := by
    intro H1 e1 z oq
    refine k p l e s m args below meth c X H1 _ cells slots ls (hR.arr z oq (by omega) hp_sR_ne rfl ⟨rfl, rfl, rfl⟩ ?_) (hS.put z oq hA) hc hs hl
    rw [e1, hT]
    rw [hp_ac_o, hp_ac_o, arrV_store]
    congr 2
    funext q
    show updV _ _ _ q = va_rf (hp_r (hp_sR G a _ x) a q)
    rw [hp_r_sR, if_pos rfl]
    by_cases hq : q = i.toNatClampNeg <;> simp [updV, hq]
  cases x with
  | none =>
    exact va_WaastN (C := T) X.1 X.2.1 h1 (h2 _ (fun j => va_rf (hp_r G a j))) (fun q => by cases q) (by show ¬ (i < 0 ∨ (arrV _ _ _).slots.size ≤ _); rw [arrV_size]; exact hin) rfl rfl hd key
  | some b =>
    obtain ⟨b1, b2, b3⟩ := hx b rfl
    obtain ⟨cellV, g1, g2, g3, kC, g4, g5⟩ := hp_ref hR hK b1 b2
    obtain ⟨kA, comp, k1, k2, k3, -⟩ := h3
    have has := hp_asg hK b2 b3 g3 k3
    obtain ⟨kcomp, hkcomp, -⟩ := Vm.findClass_spec k3
    exact W.aast (cv := cellV) X.1 X.2.1 h1 (fun q h => by cases h) (fun h => by cases h) k1 k2 rfl hkcomp ⟨h0, by show _ < (arrV _ _ _).slots.size; rw [arrV_size]; exact hlt⟩ g1 (fun q h => by rw [g2] at h; cases h) g4 has rfl rfl hd key
end
