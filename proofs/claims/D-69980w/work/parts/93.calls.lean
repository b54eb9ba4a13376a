/-! restart, value, input of the reference -/
set_option maxRecDepth 100000
def md_rs (σ : MS) : Int32 × MS := if 0 ≤ σ.1 49 then (σ.1 72, md_fl (ml_sf (ml_sf σ 2 0) 72 0) 75 0 (ml_len 75)) else (0, ml_sf (ml_sf σ 2 0) 2 1)
def md_val (σ : MS) (k : Int32) : Int64 × MS :=
  if k < 0 ∨ ¬ k < md_mv σ then (0, ml_sf (ml_sf σ 2 0) 2 1) else if σ.1 72 = 0 then (0, ml_sf (ml_sf σ 2 0) 2 2)
  else (if σ.2 78 k.toNatClampNeg = 0 then 1099511627776 else (σ.2 74 k.toNatClampNeg).toInt64, ml_sf σ 2 0)
def md_inp (σ : MS) (i v : Int32) : Int32 × MS :=
  if σ.1 49 < 0 ∨ ¬ 0 ≤ i then (0, ml_sf (ml_sf σ 2 0) 2 1)
  else if ¬ i < σ.2 13 (σ.1 49).toNatClampNeg then (0, ml_sf (ml_sf σ 2 0) 2 1)
  else if ¬ σ.2 24 (σ.2 12 (σ.1 49).toNatClampNeg + i).toNatClampNeg = 0 ∧ (v < 0 ∨ ¬ v ≤ 1) then (0, ml_sf (ml_sf σ 2 0) 2 2)
  else (σ.2 73 i.toNatClampNeg, ml_sa (ml_sf σ 2 0) 73 i.toNatClampNeg v)
section
variable {z : MZ} {d : Nat} {σ : MS}
theorem X6_restart_C (hd : 2 ≤ d) : ml_C z mX6_restart d 0 [vR (some z.2.1)] σ (fun v σ' _ => v = some (vI (md_rs σ).1) ∧ σ' = (md_rs σ).2) (fun _ _ _ => False) := by
  refine ml_C_of (by decide) rfl (Nat.le_of_ble_eq_true rfl) ?_
  unfold md_rs
  refine mbrestart_0 (fun q => mbrestart_18 ?_) (fun q => mbrestart_14 ?_)
  · rw [if_pos q]
    refine mbrestart_19 (X6_refuse_0 (d := 1)) hd (Nat.le_refl 0) (ml_krv fun σ' h => ?_) ml_no
    subst h
    refine mbrestart_22 (fun _ => ?_) (fun u => absurd rfl u)
    refine mbrestart_27 (J17_fill_M (d := 1) (by decide)) hd (Nat.le_refl 0) (ml_kr0 fun σ' h => ?_)
    subst h
    exact mbrestart_45 (fun G _ => ⟨rfl, rfl⟩)
  · rw [if_neg q]
    refine mbrestart_19 (X6_refuse_1 (d := 1)) hd (Nat.le_refl 0) (ml_krv fun σ' h => ?_) ml_no
    subst h
    exact mbrestart_22 (fun u => absurd u (by decide)) (fun _ => mbrestart_25 (fun G _ => ⟨rfl, rfl⟩))
theorem X6_value_C {k : Int32} (hm : md_main σ) (hk : ¬ k < 0 → k < md_mv σ → vp_in k 6100) (hd : 2 ≤ d) : ml_C z mX6_value d 0 [vR (some z.2.1), vI k] σ (fun v σ' _ => v = some (vL (md_val σ k).1) ∧ σ' = (md_val σ k).2) (fun _ _ _ => False) := by
  refine ml_C_of (by decide) rfl (Nat.le_of_ble_eq_true rfl) ?_
  have emv : md_mv (ml_sf σ 2 0) = md_mv σ := rfl
  have bad : ∀ E, (k < 0 ∨ ¬ k < md_mv σ) → ml_V z mX6_value (d, 0, (fun v σ' _ => v = some (vL (md_val σ k).1) ∧ σ' = (md_val σ k).2), fun _ _ _ => False) 19 [(0, vR (some z.2.1)), (1, vI k)] [vI 1, vR (some z.2.1)] (ml_sf σ 2 0) E 0 := by
    intro E q
    unfold md_val
    rw [if_pos q]
    refine mbvalue_19 (mbvalue_24 (X6_refuse_1 (d := 1)) hd (Nat.le_refl 0) (ml_krv fun σ' h => ?_) ml_no)
    subst h
    exact mbvalue_27 (fun _ => mbvalue_50 (fun G _ => ⟨rfl, rfl⟩)) (fun u => absurd u (by decide))
  refine mbvalue_0 (fun q => bad _ (Or.inl q)) (fun q => ?_)
  refine mbvalue_11 (X6_mainVariables_C (d := 1) (show md_main (ml_sf σ 2 0) from hm)) hd (Nat.le_refl 0) (ml_krv fun σ' h => ?_) ml_no
  subst h
  rw [emv]
  refine mbvalue_16 (fun q2 => ?_) (fun q2 => bad _ (Or.inr q2))
  unfold md_val
  rw [if_neg (fun u => u.elim q (fun u => u q2))]
  refine mbvalue_23 (mbvalue_24 (X6_refuse_0 (d := 1)) hd (Nat.le_refl 0) (ml_krv fun σ' h => ?_) ml_no)
  subst h
  refine mbvalue_27 (fun u => absurd rfl u) (fun _ => ?_)
  refine mbvalue_30 (fun q3 => ?_) (fun q3 => ?_)
  · have q4 : ¬ σ.1 72 = 0 := q3
    rw [if_neg q4]
    refine mbvalue_43 (mbvalue_44 (X6_refuse_0 (d := 1)) hd (Nat.le_refl 0) (ml_krv fun σ' h => ?_) ml_no)
    subst h
    refine mbvalue_47 (fun _ => ?_) (fun u => absurd rfl u)
    refine mbvalue_52 (hk q q2) (fun q5 => ?_) (fun q5 => ?_)
    · have q6 : σ.2 78 k.toNatClampNeg = 0 := q5
      rw [if_pos q6]
      exact mbvalue_71 (mbvalue_74 (fun G _ => ⟨rfl, rfl⟩))
    · have q6 : ¬ σ.2 78 k.toNatClampNeg = 0 := q5
      rw [if_neg q6]
      exact mbvalue_61 (hk q q2) (mbvalue_74 (fun G _ => ⟨rfl, rfl⟩))
  · have q4 : σ.1 72 = 0 := q3
    rw [if_pos q4]
    refine mbvalue_39 (mbvalue_44 (X6_refuse_1 (d := 1)) hd (Nat.le_refl 0) (ml_krv fun σ' h => ?_) ml_no)
    subst h
    exact mbvalue_47 (fun u => absurd u (by decide)) (fun _ => mbvalue_50 (fun G _ => ⟨rfl, rfl⟩))
theorem X6_input_C {i v : Int32} (hm : md_main σ) (hi : ¬ σ.1 49 < 0 → 0 ≤ i → i < σ.2 13 (σ.1 49).toNatClampNeg → vp_in i 100 ∧ vp_in (σ.2 12 (σ.1 49).toNatClampNeg + i) 6000) (hd : 2 ≤ d) : ml_C z mX6_input d 0 [vR (some z.2.1), vI i, vI v] σ (fun u σ' _ => u = some (vI (md_inp σ i v).1) ∧ σ' = (md_inp σ i v).2) (fun _ _ _ => False) := by
  refine ml_C_of (by decide) rfl (Nat.le_of_ble_eq_true rfl) ?_
  have bad : ∀ E, (σ.1 49 < 0 ∨ ¬ 0 ≤ i) → ml_V z mX6_input (d, 0, (fun u σ' _ => u = some (vI (md_inp σ i v).1) ∧ σ' = (md_inp σ i v).2), fun _ _ _ => False) 18 [(0, vR (some z.2.1)), (1, vI i), (2, vI v)] [vI 1, vR (some z.2.1)] (ml_sf σ 2 0) E 0 := by
    intro E q
    unfold md_inp
    rw [if_pos q]
    refine mbinput_18 (mbinput_23 (X6_refuse_1 (d := 1)) hd (Nat.le_refl 0) (ml_krv fun σ' h => ?_) ml_no)
    subst h
    exact mbinput_26 (fun _ => mbinput_96 (fun G _ => ⟨rfl, rfl⟩)) (fun u => absurd u (by decide))
  refine mbinput_0 (fun q => bad _ (Or.inl q)) (fun q => ?_)
  refine mbinput_14 (fun q2 => ?_) (fun q2 => bad _ (Or.inr q2))
  refine mbinput_22 (mbinput_23 (X6_refuse_0 (d := 1)) hd (Nat.le_refl 0) (ml_krv fun σ' h => ?_) ml_no)
  subst h
  refine mbinput_26 (fun u => absurd rfl u) (fun _ => ?_)
  have q' : ¬ σ.1 49 < 0 := q
  obtain ⟨m, hm1, hm2⟩ := hm.resolve_left q'
  have v60 : vp_in (σ.1 49) 60 := by rw [hm2]; exact vp_in_nI hm1 (by decide)
  have v61 : vp_in (σ.1 49) 61 := by rw [hm2]; exact vp_in_nI (by omega) (by decide)
  unfold md_inp
  rw [if_neg (fun u => u.elim q' (fun u => u q2))]
  refine mbinput_29 v60 (fun q3 => ?_) (fun q3 => ?_)
  · have q4 : i < σ.2 13 (σ.1 49).toNatClampNeg := q3
    rw [if_neg (fun u => u q4)]
    obtain ⟨hi1, hi2⟩ := hi q' q2 q4
    refine mbinput_48 (mbinput_49 (X6_refuse_0 (d := 1)) hd (Nat.le_refl 0) (ml_krv fun σ' h => ?_) ml_no)
    subst h
    refine mbinput_52 (fun u => absurd rfl u) (fun _ => ?_)
    have ok : ∀ E, ¬ (¬ σ.2 24 (σ.2 12 (σ.1 49).toNatClampNeg + i).toNatClampNeg = 0 ∧ (v < 0 ∨ ¬ v ≤ 1)) → ml_V z mX6_input (d, 0, (fun u σ' _ => u = some (vI (if ¬ σ.2 24 (σ.2 12 (σ.1 49).toNatClampNeg + i).toNatClampNeg = 0 ∧ (v < 0 ∨ ¬ v ≤ 1) then ((0 : Int32), ml_sf (ml_sf σ 2 0) 2 2) else (σ.2 73 i.toNatClampNeg, ml_sa (ml_sf σ 2 0) 73 i.toNatClampNeg v)).1) ∧ σ' = (if ¬ σ.2 24 (σ.2 12 (σ.1 49).toNatClampNeg + i).toNatClampNeg = 0 ∧ (v < 0 ∨ ¬ v ≤ 1) then ((0 : Int32), ml_sf (ml_sf σ 2 0) 2 2) else (σ.2 73 i.toNatClampNeg, ml_sa (ml_sf σ 2 0) 73 i.toNatClampNeg v)).2), fun _ _ _ => False) 89 [(0, vR (some z.2.1)), (1, vI i), (2, vI v)] [vI 2, vR (some z.2.1)] (ml_sf σ 2 0) E 0 := by
      intro E h
      rw [if_neg h]
      refine mbinput_89 (mbinput_90 (X6_refuse_0 (d := 1)) hd (Nat.le_refl 0) (ml_krv fun σ' h => ?_) ml_no)
      subst h
      exact mbinput_93 (fun _ => mbinput_98 hi1 (fun G => ⟨rfl, rfl⟩)) (fun u => absurd rfl u)
    have no : ∀ E, (¬ σ.2 24 (σ.2 12 (σ.1 49).toNatClampNeg + i).toNatClampNeg = 0 ∧ (v < 0 ∨ ¬ v ≤ 1)) → ml_V z mX6_input (d, 0, (fun u σ' _ => u = some (vI (if ¬ σ.2 24 (σ.2 12 (σ.1 49).toNatClampNeg + i).toNatClampNeg = 0 ∧ (v < 0 ∨ ¬ v ≤ 1) then ((0 : Int32), ml_sf (ml_sf σ 2 0) 2 2) else (σ.2 73 i.toNatClampNeg, ml_sa (ml_sf σ 2 0) 73 i.toNatClampNeg v)).1) ∧ σ' = (if ¬ σ.2 24 (σ.2 12 (σ.1 49).toNatClampNeg + i).toNatClampNeg = 0 ∧ (v < 0 ∨ ¬ v ≤ 1) then ((0 : Int32), ml_sf (ml_sf σ 2 0) 2 2) else (σ.2 73 i.toNatClampNeg, ml_sa (ml_sf σ 2 0) 73 i.toNatClampNeg v)).2), fun _ _ _ => False) 85 [(0, vR (some z.2.1)), (1, vI i), (2, vI v)] [vI 2, vR (some z.2.1)] (ml_sf σ 2 0) E 0 := by
      intro E h
      rw [if_pos h]
      refine mbinput_85 (mbinput_90 (X6_refuse_1 (d := 1)) hd (Nat.le_refl 0) (ml_krv fun σ' h => ?_) ml_no)
      subst h
      exact mbinput_93 (fun u => absurd u (by decide)) (fun _ => mbinput_96 (fun G _ => ⟨rfl, rfl⟩))
    refine mbinput_55 v61 hi2 (fun q5 => ok _ (fun u => u.1 q5)) (fun q5 => ?_)
    refine mbinput_76 (fun q6 => no _ ⟨q5, Or.inl q6⟩) (fun q6 => ?_)
    exact mbinput_80 (fun q7 => ok _ (fun u => u.2.elim q6 (fun u => u q7))) (fun q7 => no _ ⟨q5, Or.inr q7⟩)
  · have q4 : ¬ i < σ.2 13 (σ.1 49).toNatClampNeg := q3
    rw [if_pos q4]
    refine mbinput_44 (mbinput_49 (X6_refuse_1 (d := 1)) hd (Nat.le_refl 0) (ml_krv fun σ' h => ?_) ml_no)
    subst h
    exact mbinput_52 (fun _ => mbinput_96 (fun G _ => ⟨rfl, rfl⟩)) (fun u => absurd u (by decide))
end
