/-! THE COMPONENT: an ArrayList's clear -/
set_option maxRecDepth 100000
section
variable {w : WD} {d a n c : Nat} {e : Nat → Option Nat} {G : GH}
theorem J5_clear_C (h : al w G a n c e) : wk_C w mJ5_clear d 0 [vR (some a)] G (fun v G' => v = none ∧ al w G' a 0 c (fun _ => none) ∧ cf (al_o G a) G G') (fun _ _ _ => False) := by
  obtain ⟨⟨k1, k2, k3⟩, ⟨hc1, hc2⟩, o, o1, o2, o3, o4, o5⟩ := h
  have hoa : o ≠ a := fun u => by rw [u, k1] at o2; cases o2
  refine wk_C_of (by decide) rfl (Nat.le_of_ble_eq_true rfl) ?_
  refine blJ5_clear_0 k1 k2 (blJ5_clear_26 ?_)
  have e1 : hp_i (hp_sI G a 2 (hp_i G a 2 + 1)) a 1 = nI n := by rw [hp_i_sI, if_pos rfl, if_neg (by decide)]; exact k3
  rw [e1, o1]
  have f1 : cf (al_o G a) G (hp_sI (hp_sI G a 2 (hp_i G a 2 + 1)) a 1 0) := (cf.rf.sI (Or.inl (Or.inl rfl))).sI (Or.inl (Or.inl rfl))
  have r1 : hp_r (hp_sI (hp_sI G a 2 (hp_i G a 2 + 1)) a 1 0) a 0 = some o := o1
  have i1 : hp_i (hp_sI (hp_sI G a 2 (hp_i G a 2 + 1)) a 1 0) a 1 = 0 := by rw [hp_i_sI, if_pos rfl, if_pos rfl]
  generalize hp_sI (hp_sI G a 2 (hp_i G a 2 + 1)) a 1 0 = G1 at f1 r1 i1
  have loop : ∀ m i G1, i + m = n → cf (al_o G a) G G1 → hp_r G1 a 0 = some o → hp_i G1 a 1 = 0 → wk_V w mJ5_clear (d, 0, (fun v G' => v = none ∧ al w G' a 0 c (fun _ => none) ∧ cf (al_o G a) G G'), (fun _ _ _ => False), hp_cs G, hp_ss G) 27 [(1, vR (some o)), (2, vI (nI n)), (3, vI (nI i))] [] G1 0 := by
    intro m
    induction m with
    | zero =>
      intro i G1 hi f1 r1 i1
      refine blJ5_clear_27 (fun _ => ?_) (fun u => absurd ((nI_leI (by omega) (by omega)).2 (by omega)) u)
      refine blJ5_clear_42 ⟨rfl, ⟨⟨f1.k k1 (by decide), k2, i1⟩, ⟨Nat.zero_le _, hc2⟩, o, r1, f1.k o2 (by decide), (f1.ln (by rw [o2]; decide)).trans o3, fun i hi => absurd hi (Nat.not_lt_zero i), ?_⟩, f1⟩
      exact o5.imp id (fun u => ⟨u.1, u.2.1, u.2.2.cg (f1.lg (by rw [o2]; decide))⟩)
    | succ m ih =>
      intro i G1 hi f1 r1 i1
      refine blJ5_clear_27 (fun u => absurd ((nI_leI (by omega) (by omega)).1 u) (by omega)) (fun _ => ?_)
      obtain ⟨c0, c1, c3⟩ : 0 < c ∧ hp_A w o ∧ ow G o a := by
        rcases o5 with ⟨u, -⟩ | u
        · omega
        · exact u
      have kO := f1.k o2 (by decide)
      refine blJ5_clear_32 rfl (by rw [f1.ln (by rw [o2]; decide), o3]; exact vp_in_nI (by omega) (by omega)) c1 (by rw [kO]; decide) (by rw [kO]; rfl) (fun b hb => by cases hb) ?_
      rw [nI_1]
      refine ih (i + 1) _ (by omega) (f1.sR (Or.inl (Or.inr ⟨c3, o2⟩))) ?_ i1
      rw [hp_r_sR, if_neg (fun u => hoa u.symm)]
      exact r1
  exact loop n 0 G1 (by omega) f1 r1 i1
end
