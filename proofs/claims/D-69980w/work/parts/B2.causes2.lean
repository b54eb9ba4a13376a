/-! causes(a, b) of the reference -/
set_option maxRecDepth 100000
section
variable {z : MZ}
theorem X6_causes_2_bad {σ : MS} {a b : Int32} {d : Nat} (hm : md_main σ) (hc : a < 0 ∨ b < 0 ∨ md_mv σ ≤ a ∨ md_mv σ ≤ b) (hd : 2 ≤ d) : ml_C z mX6_causes_2 d 0 [vR (some z.2.1), vI a, vI b] σ (fun u σ' _ => u = some (vI 0) ∧ σ' = ml_sf (ml_sf σ 2 0) 2 1) (fun _ _ _ => False) := by
  refine ml_C_of (by decide) rfl (Nat.le_of_ble_eq_true rfl) ?_
  have hm2 : md_main (ml_sf σ 2 0) := hm
  have st : ∀ E, ml_V z mX6_causes_2 (d, 0, (fun u σ' _ => u = some (vI 0) ∧ σ' = ml_sf (ml_sf σ 2 0) 2 1), fun _ _ _ => False) 31 [(0, vR (some z.2.1)), (1, vI a), (2, vI b)] [vI 1, vR (some z.2.1)] (ml_sf σ 2 0) E 0 := fun E => by
    refine mbcauses_2_31 (mbcauses_2_36 (X6_refuse_1 (d := 1)) (by show 1 + 1 ≤ d; omega) (Nat.zero_le _) (ml_krv fun σ2 g => ?_) ml_no)
    subst g
    exact mbcauses_2_39 (fun u => absurd u (by decide)) (fun _ => mbcauses_2_42 (fun G _ => ⟨rfl, rfl⟩))
  refine mbcauses_2_0 (fun _ => st _) (fun u => ?_)
  refine mbcauses_2_11 (fun _ => st _) (fun u2 => ?_)
  refine mbcauses_2_15 (X6_mainVariables_C (d := 1) hm2) (by show 1 + 1 ≤ d; omega) (Nat.zero_le _) (ml_krv fun σ2 g => ?_) ml_no
  subst g
  refine mbcauses_2_20 (fun _ => st _) (fun u3 => ?_)
  refine mbcauses_2_23 (X6_mainVariables_C (d := 1) hm2) (by show 1 + 1 ≤ d; omega) (Nat.zero_le _) (ml_krv fun σ2 g => ?_) ml_no
  subst g
  refine mbcauses_2_28 (fun u4 => ?_) (fun _ => st _)
  rcases hc with h | h | h | h
  · exact absurd h u
  · exact absurd h u2
  · exact absurd h u3
  · exact absurd u4 (Int32.not_lt.2 h)
theorem X6_causes_2_C {σ : MS} {a b N : Nat} {Ce : Nat → Nat} {E : Nat → List Nat} {d : Nat} (hm : md_main σ) (hg : gr (ml_sf σ 2 0) N Ce E) (ha : a < N) (hb : b < N) (hN : N ≤ 6000) (h1 : nI a < md_mv σ) (h2 : nI b < md_mv σ) (hd : 21 ≤ d) : ml_C z mX6_causes_2 d 0 [vR (some z.2.1), vI (nI a), vI (nI b)] σ (fun u σ' _ => ((u = some (vI 1) ∧ (a = b ∨ rch E a b)) ∨ (u = some (vI 0) ∧ ¬ (a = b ∨ rch E a b))) ∧ σ'.1 = (ml_sf σ 2 0).1 ∧ ∀ q, q ≠ 68 → q ≠ 69 → σ'.2 q = σ.2 q) (fun _ _ _ => False) := by
  refine ml_C_of (by decide) rfl (Nat.le_of_ble_eq_true rfl) ?_
  have hm2 : md_main (ml_sf σ 2 0) := hm
  have na : ∀ a, a < N → ¬ nI a < 0 := fun a ha => Int32.not_lt.2 (show nI 0 ≤ nI a from nI_le (Nat.zero_le _) (by omega))
  refine mbcauses_2_0 (fun u => absurd u (na a ha)) (fun u => ?_)
  refine mbcauses_2_11 (fun u => absurd u (na b hb)) (fun u2 => ?_)
  refine mbcauses_2_15 (X6_mainVariables_C (d := 1) hm2) (by show 1 + 1 ≤ d; omega) (Nat.zero_le _) (ml_krv fun σ2 g => ?_) ml_no
  subst g
  refine mbcauses_2_20 (fun u => absurd u (Int32.not_le.2 h1)) (fun u3 => ?_)
  refine mbcauses_2_23 (X6_mainVariables_C (d := 1) hm2) (by show 1 + 1 ≤ d; omega) (Nat.zero_le _) (ml_krv fun σ2 g => ?_) ml_no
  subst g
  refine mbcauses_2_28 (fun _ => ?_) (fun u => absurd h2 u)
  refine mbcauses_2_35 (mbcauses_2_36 (X6_refuse_0 (d := 1)) (by show 1 + 1 ≤ d; omega) (Nat.zero_le _) (ml_krv fun σ2 g => ?_) ml_no)
  subst g
  refine mbcauses_2_39 (fun _ => ?_) (fun u => absurd rfl u)
  refine mbcauses_2_44 (fun u => ?_) (fun u => ?_)
  · have e : a = b := (nI_eq (by omega) (by omega)).1 u
    exact mbcauses_2_58 (mbcauses_2_63 (nw_b (Or.inr rfl)) (fun G _ => ⟨Or.inl ⟨rfl, Or.inl e⟩, rfl, fun q _ _ => rfl⟩))
  · have e : ¬ a = b := fun y => u (by rw [y])
    refine mbcauses_2_49 (d' := 20) (b' := 0) (X6_caused_C hg ha hb) (by show 20 + 1 ≤ d; omega) (Nat.zero_le _) (ml_kr fun v σ2 g => ?_) ml_no
    obtain ⟨g1, g2, g3⟩ := g
    rcases g1 with ⟨v1, r⟩ | ⟨v1, r⟩
    · subst v1
      refine mbcauses_2_55 (fun u => absurd u (by decide)) (fun _ => ?_)
      exact mbcauses_2_58 (mbcauses_2_63 (nw_b (Or.inr rfl)) (fun G _ => ⟨Or.inl ⟨rfl, Or.inr r⟩, g2, fun q q1 q2 => g3 q q1 q2⟩))
    · subst v1
      refine mbcauses_2_55 (fun _ => ?_) (fun u => absurd rfl u)
      exact mbcauses_2_62 (mbcauses_2_63 (nw_b (Or.inl rfl)) (fun G _ => ⟨Or.inr ⟨rfl, fun y => y.elim e r⟩, g2, fun q q1 q2 => g3 q q1 q2⟩))
end
