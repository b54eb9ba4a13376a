/-! feed of the reference -/
set_option maxRecDepth 100000
theorem X6_feed_C {z : MZ} {d n : Nat} {a b c d4 e : Int32} {σ : MS} (h : σ.1 1 = nI n) (hn : n ≤ 65536) (hd : 1 ≤ d) : ml_C z mX6_feed d 0 [vR (some z.2.1), vI a, vI b, vI c, vI d4, vI e] σ (fun v σ' _ => (n ≤ 65516 ∧ v = some (vI (nI (n + 20))) ∧ σ' = md_fd (ml_sf σ 2 0) (md_byte a b c d4 e) 20) ∨ (¬ n ≤ 65516 ∧ v = some (vI 0) ∧ σ' = ml_sf σ 2 1)) (fun _ _ _ => False) := by
  refine ml_C_of (by decide) rfl (Nat.le_of_ble_eq_true rfl) ?_
  refine mbfeed_0 (fun q => ?_) (fun q => ?_)
  · have q' : nI n ≤ nI 65516 := by rw [← h]; exact q
    have hn2 := (nI_leI (by omega) (by omega)).1 q'
    refine mbfeed_21 (mbfeed_22 (X6_refuse_0 (d := 0)) hd (Nat.zero_le _) (ml_pure ?_) ml_no)
    refine mbfeed_25 (fun _ => mbfeed_30 ?_) (fun u => absurd rfl u)
    exact md_feed_V (σ := ml_sf σ 2 0) h hn2 (fun G => Or.inl ⟨hn2, rfl, rfl⟩) 20 0 _ rfl
  · have q' : ¬ nI n ≤ nI 65516 := by rw [← h]; exact q
    have hn2 : ¬ n ≤ 65516 := fun u => q' (nI_le u (by decide))
    refine mbfeed_17 (mbfeed_22 (X6_refuse_1 (d := 0)) hd (Nat.zero_le _) (ml_kr fun v σ' g => ?_) ml_no)
    obtain ⟨rfl, rfl⟩ := g
    exact mbfeed_25 (fun u => absurd u (by decide)) (fun _ => mbfeed_28 (fun _ _ => Or.inr ⟨hn2, rfl, ml_sf_sf⟩))
