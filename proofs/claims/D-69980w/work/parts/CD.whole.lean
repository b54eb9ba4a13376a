/-! THE COMPONENT's PARSER: whole, deep -/
set_option maxRecDepth 100000
theorem hp_subE : ∀ k, 13 ≤ k → k ≤ 21 → hp_sub k "StreamNodes$Expression" := by
  have : ∀ k, k < 22 → 13 ≤ k → hp_sub k "StreamNodes$Expression" := by
    unfold hp_sub
    decide +kernel
  exact fun k a b => this k (by omega) a
/-- the height over n parts of the heights H -/
def hgt (H : Nat → Int32) : Nat → Int32 → Int32
  | 0, a => a
  | n + 1, a => if hgt H n a < 1 + H n then 1 + H n else hgt H n a
section
variable {z : RZ} {d c : Nat} {G : GH}
theorem X3_deep_C {k : Nat} (h : rat z c G) (hk : k < 2 ^ 20) (hd : 1 ≤ d) : wk_C z.1 mX3_deep d 0 [vR (some z.2.1), vI (nI k)] G (fun v G' => v = none ∧ k ≤ 40 ∧ G' = G) (fun E q G' => 40 < k ∧ er z no9 G 3 c E q G') := by
  refine wk_C_of (by decide) rfl (Nat.le_of_ble_eq_true rfl) ?_
  refine blX3_deep_0 (fun q => ?_) (fun q => ?_)
  · exact blX3_deep_16 ⟨rfl, (nI_leI (a := k) (b := 40) (by omega) (by decide)).1 q, rfl⟩
  · have hk2 : 40 < k := Nat.lt_of_not_le fun u => q (show nI k ≤ nI 40 from nI_le u (by decide))
    refine blX3_deep_6 h.1.1.1 (by rw [h.2.2.1]; exact X3_fail_C (d := 0) h.1) hd (Nat.zero_le _) ?_ (fun _ _ _ q => absurd q id)
    rintro v G' ⟨rfl, h1, h2⟩
    refine blX3_deep_15 rfl (by rw [h2]; decide) (by rw [h2]; decide) (wk_out0 rfl ⟨hk2, ?_⟩)
    rw [h2]
    exact h1
/-- among the parts of t -/
def wh_I (G0 G : GH) (H : Nat → Int32) (t i : Nat) : Prop := cf (fun y => y = t) G0 G ∧ hp_i G t 2 = hgt H i (hp_i G0 t 2) ∧ (∀ k, k ≠ 2 → hp_i G t k = hp_i G0 t k) ∧ (∀ k, hp_r G t k = hp_r G0 t k) ∧ ∀ k, hp_l G t k = hp_l G0 t k
theorem X3_whole_C {t L n m : Nat} {xs : Nat → Nat} {H : Nat → Int32} (h : rat z c G) (kt : 15 ≤ hp_kd G t ∧ hp_kd G t ≤ 21) (hA : hp_A z.1 t) (h3 : hp_r G t 3 = some L) (hl : al z.1 G L n m (fun i => some (xs i)))
    (hx : ∀ i, i < n → (13 ≤ hp_kd G (xs i) ∧ hp_kd G (xs i) ≤ 21) ∧ hp_i G (xs i) 2 = H i ∧ xs i ≠ t) (hd : 3 ≤ d) : wk_C z.1 mX3_whole d 0 [vR (some z.2.1), vR (some t)] G
    (fun v G' => hgt H n (hp_i G t 2) ≤ 200 ∧ v = some (vR (some t)) ∧ wh_I G G' H t n) (fun E q G' => ¬ hgt H n (hp_i G t 2) ≤ 200 ∧ er z (fun y => y = t) G 3 c E q G') := by
  have k1 := h.1.1.1
  have kR : hp_kd G z.2.1 ≠ 0 := by rw [k1]; decide
  have kt0 : hp_kd G t ≠ 0 := by omega
  have nR : ¬ z.2.1 = t := fun u => by rw [u] at k1; omega
  have nT : ¬ z.2.2.1 = t := fun u => by have := h.1.2.2.1.1; rw [u] at this; omega
  have nL : ¬ L = t := fun u => by have := hl.1.1; rw [u] at this; omega
  have hn : n < 2 ^ 24 := by have := hl.2.1; omega
  refine wk_C_of (by decide) rfl (Nat.le_of_ble_eq_true rfl) ?_
  refine blX3_whole_0 ?_
  have al1 : ∀ G1, cf (fun y => y = t) G G1 → al z.1 G1 L n m (fun i => some (xs i)) := fun G1 hf => hl.fr hf nL (fun y _ hy e => by rw [e] at hy; omega)
  have fin : ∀ G1, wh_I G G1 H t n → wk_V z.1 mX3_whole (d, 0, (fun v G' => hgt H n (hp_i G t 2) ≤ 200 ∧ v = some (vR (some t)) ∧ wh_I G G' H t n), (fun E q G' => ¬ hgt H n (hp_i G t 2) ≤ 200 ∧ er z (fun y => y = t) G 3 c E q G'), hp_cs G, hp_ss G) 46 [(0, vR (some z.2.1)), (1, vR (some t))] [] G1 0 := by
    intro G1 hI
    obtain ⟨i1, i2, i3, i4, i5⟩ := id hI
    refine blX3_whole_46 rfl (by rw [i1.kd kt0]; exact kt) (fun q => ?_) (fun q => ?_)
    · rw [i2] at q
      exact blX3_whole_66 ⟨q, rfl, hI⟩
    · rw [i2] at q
      have hr1 : rb z G1 := h.1.fr i1 nR nT
      refine blX3_whole_56 hr1.1.1 (by rw [i1.i kR nR, h.2.2.1]; exact X3_fail_C (d := 0) hr1) (by show 0 + 1 ≤ d; omega) (Nat.zero_le _) ?_ (fun _ _ _ q => absurd q id)
      rintro v G' ⟨rfl, h1, h2⟩
      refine blX3_whole_65 rfl (by rw [h2]; decide) (by rw [h2]; decide) (wk_out0 rfl ⟨q, ?_⟩)
      rw [h2]
      exact h1.of (rx_of i1 (fun a e => by rw [e]; omega)) (fun k _ => by rw [i1.r kR nR]) (fun _ _ u => absurd u id)
  have loop : ∀ k i G1, i + k = n → wh_I G G1 H t i → wk_V z.1 mX3_whole (d, 0, (fun v G' => hgt H n (hp_i G t 2) ≤ 200 ∧ v = some (vR (some t)) ∧ wh_I G G' H t n), (fun E q G' => ¬ hgt H n (hp_i G t 2) ≤ 200 ∧ er z (fun y => y = t) G 3 c E q G'), hp_cs G, hp_ss G) 2 [(0, vR (some z.2.1)), (1, vR (some t)), (2, vI (nI i))] [] G1 0 := by
    intro k
    induction k with
    | zero =>
      intro i G1 hi hI
      have hal := al1 G1 hI.1
      have e : i = n := by omega
      subst e
      refine blX3_whole_2 rfl (by rw [hI.1.kd kt0]; exact kt) (by rw [hI.2.2.2.1 3]; exact h3) hal.1.1 (J5_size_C (d := 0) hal) (by show 0 + 1 ≤ d; omega) (Nat.zero_le _) ?_ (fun _ _ _ q => absurd q id)
      rintro v G' ⟨rfl, rfl⟩
      exact blX3_whole_10 (fun _ => fin _ hI) (fun q => absurd (nI_le (Nat.le_refl _) (by omega)) q)
    | succ k ih =>
      intro i G1 hi hI
      have hal := al1 G1 hI.1
      refine blX3_whole_2 rfl (by rw [hI.1.kd kt0]; exact kt) (by rw [hI.2.2.2.1 3]; exact h3) hal.1.1 (J5_size_C (d := 0) hal) (by show 0 + 1 ≤ d; omega) (Nat.zero_le _) ?_ (fun _ _ _ q => absurd q id)
      rintro v G' ⟨rfl, rfl⟩
      refine blX3_whole_10 (fun q => absurd q (nI_ge (by omega) (by omega))) (fun _ => ?_)
      refine blX3_whole_13 rfl (by rw [hI.1.kd kt0]; exact kt) (by rw [hI.2.2.2.1 3]; exact h3) hal.1.1 (J5_get_C (d := 2) hal (by omega) (Nat.le_refl 2)) hd (Nat.zero_le _) ?_ (fun _ _ _ q => absurd q id)
      rintro v G2 ⟨rfl, rfl⟩
      obtain ⟨x1, x2, x3⟩ := hx i (by omega)
      have kx0 : hp_kd G (xs i) ≠ 0 := by omega
      have kx : 13 ≤ hp_kd G2 (xs i) ∧ hp_kd G2 (xs i) ≤ 21 := by rw [hI.1.kd kx0]; exact x1
      refine blX3_whole_27 (fun y hy => ?_) rfl kx (by show 1 ≤ d; omega) ?_
      · cases hy
        exact ⟨by omega, by omega, hp_subE _ kx.1 kx.2⟩
      · have ex : hp_i G2 (xs i) 2 = H i := by rw [hI.1.i kx0 x3]; exact x2
        rw [ex, hI.2.1]
        refine blX3_whole_37 rfl (by rw [hI.1.kd kt0]; exact kt) hA ?_
        rw [nI_1]
        refine ih (i + 1) _ (by omega) ⟨hI.1.sI (Or.inl rfl), ?_, fun k hk => ?_, hI.2.2.2.1, hI.2.2.2.2⟩
        · rw [hp_i_sI, if_pos rfl, if_pos rfl]; rfl
        · rw [hp_i_sI, if_pos rfl, if_neg hk]; exact hI.2.2.1 k hk
  exact loop n 0 G (by omega) ⟨cf.rf, rfl, fun _ _ => rfl, fun _ => rfl, fun _ => rfl⟩
end
