/-! THE COMPONENT's EXPRESSIONS: the classes' constructors -/
set_option maxRecDepth 100000
section
variable {w : WD} {d x : Nat} {G : GH} {bad : Option Nat}
theorem wk_nat0 {n : Nat} : 0 ≤ n := Nat.zero_le n
theorem X15_init_C {op : Int32} (hk : hp_kd G x = 15) (hA : hp_A w x) (hE : kE w G) (hd : 5 ≤ d) : wk_C w mX15_init d 1 [vR (some x), vI op, vR bad] G (fun v G' => v = none ∧ ∃ G2, to_P w G x bad G2 ∧ G' = hp_sI G2 x 5 op) (fun _ _ _ => False) := by
  refine wk_C_of (by decide) rfl (by cases bad <;> exact Nat.le_of_ble_eq_true rfl) ?_
  refine blX15_init_0 (X12_init_C (d := 4) (by omega) hA hE (Nat.le_refl 4)) hd (Nat.le_refl 1) ?_ (fun _ _ _ q => absurd q id)
  rintro v G2 ⟨rfl, h⟩
  obtain ⟨L, h1, h2, h3, h4, h5⟩ := id h
  exact blX15_init_5 (h4.k hk (by decide)) hA ⟨rfl, G2, h, rfl⟩
theorem X14_init_C (hk : hp_kd G x = 16) (hA : hp_A w x) (hE : kE w G) (hd : 5 ≤ d) : wk_C w mX14_init d 1 [vR (some x), vR bad] G (fun v G' => v = none ∧ to_P w G x bad G') (fun _ _ _ => False) := by
  refine wk_C_of (by decide) rfl (by cases bad <;> exact Nat.le_of_ble_eq_true rfl) ?_
  refine blX14_init_0 (X12_init_C (d := 4) (by omega) hA hE (Nat.le_refl 4)) hd (Nat.le_refl 1) ?_ (fun _ _ _ q => absurd q id)
  rintro v G2 ⟨rfl, h⟩
  exact blX14_init_5 ⟨rfl, h⟩
theorem X16_init_C (hk : hp_kd G x = 18) (hA : hp_A w x) (hE : kE w G) (hd : 5 ≤ d) : wk_C w mX16_init d 1 [vR (some x), vR bad] G (fun v G' => v = none ∧ to_P w G x bad G') (fun _ _ _ => False) := by
  refine wk_C_of (by decide) rfl (by cases bad <;> exact Nat.le_of_ble_eq_true rfl) ?_
  refine blX16_init_0 (X12_init_C (d := 4) (by omega) hA hE (Nat.le_refl 4)) hd (Nat.le_refl 1) ?_ (fun _ _ _ q => absurd q id)
  rintro v G2 ⟨rfl, h⟩
  exact blX16_init_5 ⟨rfl, h⟩
theorem X17_init_C (hk : hp_kd G x = 20) (hA : hp_A w x) (hE : kE w G) (hd : 5 ≤ d) : wk_C w mX17_init d 1 [vR (some x), vR bad] G (fun v G' => v = none ∧ to_P w G x bad G') (fun _ _ _ => False) := by
  refine wk_C_of (by decide) rfl (by cases bad <;> exact Nat.le_of_ble_eq_true rfl) ?_
  refine blX17_init_0 (X12_init_C (d := 4) (by omega) hA hE (Nat.le_refl 4)) hd (Nat.le_refl 1) ?_ (fun _ _ _ q => absurd q id)
  rintro v G2 ⟨rfl, h⟩
  exact blX17_init_5 ⟨rfl, h⟩
theorem X21_init_C {b : Int32} (hk : hp_kd G x = 17) (hb : b = 0 ∨ b = 1) (hA : hp_A w x) (hE : kE w G) (hd : 5 ≤ d) : wk_C w mX21_init d 1 [vR (some x), vI b, vR bad] G (fun v G' => v = none ∧ ∃ G2, to_P w G x bad G2 ∧ G' = hp_sI G2 x 5 b) (fun _ _ _ => False) := by
  refine wk_C_of (by decide) rfl (by cases bad <;> exact Nat.le_of_ble_eq_true rfl) ?_
  refine blX21_init_0 (X12_init_C (d := 4) (by omega) hA hE (Nat.le_refl 4)) hd (Nat.le_refl 1) ?_ (fun _ _ _ q => absurd q id)
  rintro v G2 ⟨rfl, h⟩
  obtain ⟨L, h1, h2, h3, h4, h5⟩ := id h
  exact blX21_init_5 (h4.k hk (by decide)) hA (by rcases hb with rfl | rfl <;> exact ⟨rfl, rfl⟩) ⟨rfl, G2, h, rfl⟩
theorem X20_init_C {b : Int32} {on : Option Nat} (hk : hp_kd G x = 19) (hb : b = 0 ∨ b = 1) (hA : hp_A w x) (hE : kE w G) (hd : 5 ≤ d) : wk_C w mX20_init d 1 [vR (some x), vR on, vI b, vR bad] G (fun v G' => v = none ∧ ∃ G2, to_P w G x bad G2 ∧ G' = hp_sI (hp_sR G2 x 5 on) x 6 b) (fun _ _ _ => False) := by
  refine wk_C_of (by decide) rfl (by cases bad <;> cases on <;> exact Nat.le_of_ble_eq_true rfl) ?_
  refine blX20_init_0 (X12_init_C (d := 4) (by omega) hA hE (Nat.le_refl 4)) hd (Nat.le_refl 1) ?_ (fun _ _ _ q => absurd q id)
  rintro v G2 ⟨rfl, h⟩
  obtain ⟨L, h1, h2, h3, h4, h5⟩ := id h
  exact blX20_init_5 (h4.k hk (by decide)) hA (by rcases hb with rfl | rfl <;> exact ⟨rfl, rfl⟩) (blX20_init_15 ⟨rfl, G2, h, rfl⟩)
theorem X13_init_C {b : Int32} {on : Option Nat} (hk : hp_kd G x = 21) (hA : hp_A w x) (hE : kE w G) (hd : 5 ≤ d) : wk_C w mX13_init d 1 [vR (some x), vR on, vI b, vR bad] G (fun v G' => v = none ∧ ∃ G2, to_P w G x bad G2 ∧ G' = hp_sI (hp_sR G2 x 5 on) x 6 b) (fun _ _ _ => False) := by
  refine wk_C_of (by decide) rfl (by cases bad <;> cases on <;> exact Nat.le_of_ble_eq_true rfl) ?_
  refine blX13_init_0 (X12_init_C (d := 4) (by omega) hA hE (Nat.le_refl 4)) hd (Nat.le_refl 1) ?_ (fun _ _ _ q => absurd q id)
  rintro v G2 ⟨rfl, h⟩
  obtain ⟨L, h1, h2, h3, h4, h5⟩ := id h
  exact blX13_init_5 (h4.k hk (by decide)) hA (blX13_init_15 ⟨rfl, G2, h, rfl⟩)
theorem X18_init_C {b : Int32} {on : Option Nat} (hk : hp_kd G x = 13) (hA : hp_A w x) (hd : 2 ≤ d) : wk_C w mX18_init d 0 [vR (some x), vI b, vR on] G (fun v G' => v = none ∧ G' = hp_sR (hp_sI (hp_sI G x 2 1) x 3 b) x 4 on) (fun _ _ _ => False) := by
  refine wk_C_of (by decide) rfl (by cases on <;> exact Nat.le_of_ble_eq_true rfl) ?_
  refine blX18_init_0 (X11_init_C (d := 1) (by omega) hA (Nat.le_refl 1)) hd (Nat.zero_le _) ?_ (fun _ _ _ q => absurd q id)
  rintro v G2 ⟨rfl, rfl⟩
  exact blX18_init_4 hk hA (blX18_init_14 ⟨rfl, rfl⟩)
theorem X19_init_C {on : Option Nat} (hk : hp_kd G x = 14) (hA : hp_A w x) (hd : 2 ≤ d) : wk_C w mX19_init d 0 [vR (some x), vR on] G (fun v G' => v = none ∧ G' = hp_sR (hp_sI G x 2 1) x 3 on) (fun _ _ _ => False) := by
  refine wk_C_of (by decide) rfl (by cases on <;> exact Nat.le_of_ble_eq_true rfl) ?_
  refine blX19_init_0 (X11_init_C (d := 1) (by omega) hA (Nat.le_refl 1)) hd (Nat.zero_le _) ?_ (fun _ _ _ q => absurd q id)
  rintro v G2 ⟨rfl, rfl⟩
  exact blX19_init_4 hk hA ⟨rfl, rfl⟩
end
