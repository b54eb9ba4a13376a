/-! keep, back, about of the reference -/
set_option maxRecDepth 100000
def md_cpA (S : MS) (s t n : Nat) : MS := ml_saA S t (va_cpy (S.2 s) (S.2 t) (0 : Int32).toNatClampNeg (0 : Int32).toNatClampNeg n)
/-- what is kept -/
def md_kp (σ : MS) : MS := md_cpA (md_cpA (md_cpA (ml_sf (ml_sf (ml_sf σ 2 0) 83 1) 82 (σ.1 72)) 75 79 (σ.1 52).toNatClampNeg) 74 80 (σ.1 51).toNatClampNeg) 78 81 (σ.1 51).toNatClampNeg
def md_keep (σ : MS) : MS := if σ.1 49 < 0 ∨ σ.1 72 = 0 then ml_sf (ml_sf σ 2 0) 2 1 else md_kp σ
def md_bk (σ : MS) : MS := md_cpA (md_cpA (md_cpA (ml_sf (ml_sf σ 2 0) 72 (σ.1 82)) 79 75 (σ.1 52).toNatClampNeg) 80 74 (σ.1 51).toNatClampNeg) 81 78 (σ.1 51).toNatClampNeg
def md_back (σ : MS) : Int32 × MS := if σ.1 83 = 0 then (0, ml_sf (ml_sf σ 2 0) 2 1) else (σ.1 72, md_bk σ)
/-- the sizes of what is kept -/
def md_kz (σ : MS) : Prop := ¬ σ.1 52 < 0 ∧ (σ.1 52).toNatClampNeg ≤ 6600 ∧ ¬ σ.1 51 < 0 ∧ (σ.1 51).toNatClampNeg ≤ 6100 ∧ (∀ i, fits .boolean (.int (σ.2 78 i)) = true) ∧ ∀ i, fits .boolean (.int (σ.2 81 i)) = true
theorem md_z0 {a b : Nat} (h : a ≤ b) : (0 : Int32).toNatClampNeg + a ≤ b := by
  rw [show (0 : Int32).toNatClampNeg = 0 from rfl, Nat.zero_add]
  exact h
section
variable {z : MZ} {d : Nat} {σ : MS}
theorem X6_keep_C (hz : md_kz σ) (hd : 2 ≤ d) : ml_C z mX6_keep d 0 [vR (some z.2.1)] σ (fun v σ' _ => v = none ∧ σ' = md_keep σ) (fun _ _ _ => False) := by
  obtain ⟨z1, z2, z3, z4, z5, z6⟩ := hz
  refine ml_C_of (by decide) rfl (Nat.le_of_ble_eq_true rfl) ?_
  have bad : ∀ E, (σ.1 49 < 0 ∨ σ.1 72 = 0) → ml_V z mX6_keep (d, 0, (fun v σ' _ => v = none ∧ σ' = md_keep σ), fun _ _ _ => False) 21 [(0, vR (some z.2.1))] [vI 1, vR (some z.2.1)] (ml_sf σ 2 0) E 0 := by
    intro E q
    refine mbkeep_21 (mbkeep_26 (X6_refuse_1 (d := 1)) hd (Nat.le_refl 0) (ml_krv fun σ' h => ?_) ml_no)
    subst h
    refine mbkeep_29 (fun u => absurd u (by decide)) (fun _ => mbkeep_32 (fun G _ => ⟨rfl, ?_⟩))
    rw [md_keep, if_pos q]
  refine mbkeep_0 (fun q => bad _ (Or.inl q)) (fun q => ?_)
  refine mbkeep_14 (fun q2 => ?_) (fun q2 => bad _ (Or.inr q2))
  have e : md_keep σ = md_kp σ := by rw [md_keep, if_neg (fun u => u.elim q q2)]
  rw [e]
  refine mbkeep_25 (mbkeep_26 (X6_refuse_0 (d := 1)) hd (Nat.le_refl 0) (ml_krv fun σ' h => ?_) ml_no)
  subst h
  refine mbkeep_29 (fun _ => ?_) (fun u => absurd rfl u)
  refine mbkeep_33 z1 (md_z0 z2) (by show _ ≤ d; omega) ?_
  refine mbkeep_63 z3 (md_z0 z4) (by show _ ≤ d; omega) ?_
  refine mbkeep_80 z3 (md_z0 z4) (fun i _ => z5 _) (by show _ ≤ d; omega) ?_
  exact mbkeep_97 (fun G _ => ⟨rfl, rfl⟩)
theorem X6_back_C (hz : md_kz σ) (hd : 2 ≤ d) : ml_C z mX6_back d 0 [vR (some z.2.1)] σ (fun v σ' _ => v = some (vI (md_back σ).1) ∧ σ' = (md_back σ).2) (fun _ _ _ => False) := by
  obtain ⟨z1, z2, z3, z4, z5, z6⟩ := hz
  refine ml_C_of (by decide) rfl (Nat.le_of_ble_eq_true rfl) ?_
  unfold md_back
  refine mbback_0 (fun q => mbback_18 ?_) (fun q => mbback_14 ?_)
  · have q1 : ¬ σ.1 83 = 0 := q
    rw [if_neg q1]
    refine mbback_19 (X6_refuse_0 (d := 1)) hd (Nat.le_refl 0) (ml_krv fun σ' h => ?_) ml_no
    subst h
    refine mbback_22 (fun _ => ?_) (fun u => absurd rfl u)
    refine mbback_27 z1 (md_z0 z2) (by show _ ≤ d; omega) ?_
    refine mbback_57 z3 (md_z0 z4) (by show _ ≤ d; omega) ?_
    refine mbback_74 z3 (md_z0 z4) (fun i _ => z6 _) (by show _ ≤ d; omega) ?_
    exact mbback_91 (fun G _ => ⟨rfl, rfl⟩)
  · have q1 : σ.1 83 = 0 := q
    rw [if_pos q1]
    refine mbback_19 (X6_refuse_1 (d := 1)) hd (Nat.le_refl 0) (ml_krv fun σ' h => ?_) ml_no
    subst h
    exact mbback_22 (fun u => absurd u (by decide)) (fun _ => mbback_25 (fun G _ => ⟨rfl, rfl⟩))
theorem X6_truth_C {x : Int32} : ml_C z mX6_truth d 0 [vI x] σ (fun v σ' _ => v = some (vI (if x = 0 then 0 else 1)) ∧ σ' = σ) (fun _ _ _ => False) := by
  refine ml_C_of (by decide) rfl (Nat.le_of_ble_eq_true rfl) ?_
  refine mbtruth_0 (fun q => mbtruth_8 (mbtruth_9 (fun G _ => ⟨by rw [if_pos q], rfl⟩))) (fun q => mbtruth_4 (mbtruth_9 (fun G _ => ⟨by rw [if_neg q], rfl⟩)))
def md_ab (σ : MS) (k x : Int32) : Int32 :=
  if x = 0 then (if ¬ σ.2 13 (σ.1 49).toNatClampNeg ≤ k then 0 else if ¬ σ.2 13 (σ.1 49).toNatClampNeg + σ.2 14 (σ.1 49).toNatClampNeg ≤ k then 1 else 2)
  else if x = 1 then (if σ.2 24 (σ.2 12 (σ.1 49).toNatClampNeg + k).toNatClampNeg = 0 then 0 else 1)
  else if x = 2 then (if 0 ≤ σ.2 22 (σ.2 12 (σ.1 49).toNatClampNeg + k).toNatClampNeg then σ.2 22 (σ.2 12 (σ.1 49).toNatClampNeg + k).toNatClampNeg / 2 else -1)
  else (if 0 ≤ σ.2 22 (σ.2 12 (σ.1 49).toNatClampNeg + k).toNatClampNeg then σ.2 22 (σ.2 12 (σ.1 49).toNatClampNeg + k).toNatClampNeg &&& 1 else 0)
def md_about (σ : MS) (k x : Int32) : Int32 × MS :=
  if k < 0 ∨ ¬ k < md_mv σ then (0, ml_sf (ml_sf σ 2 0) 2 1) else if x < 0 ∨ ¬ x ≤ 3 then (0, ml_sf (ml_sf σ 2 0) 2 2) else (md_ab σ k x, ml_sf σ 2 0)
theorem X6_about_C {k x : Int32} (hm : md_main σ) (hk : ¬ k < 0 → k < md_mv σ → vp_in (σ.1 49) 60 ∧ vp_in (σ.2 12 (σ.1 49).toNatClampNeg + k) 6000) (hd : 2 ≤ d) : ml_C z mX6_about d 0 [vR (some z.2.1), vI k, vI x] σ (fun v σ' _ => v = some (vI (md_about σ k x).1) ∧ σ' = (md_about σ k x).2) (fun _ _ _ => False) := by
  refine ml_C_of (by decide) rfl (Nat.le_of_ble_eq_true rfl) ?_
  have emv : md_mv (ml_sf σ 2 0) = md_mv σ := rfl
  have bad : ∀ E, (k < 0 ∨ ¬ k < md_mv σ) → ml_V z mX6_about (d, 0, (fun v σ' _ => v = some (vI (md_about σ k x).1) ∧ σ' = (md_about σ k x).2), fun _ _ _ => False) 19 [(0, vR (some z.2.1)), (1, vI k), (2, vI x)] [vI 1, vR (some z.2.1)] (ml_sf σ 2 0) E 0 := by
    intro E q
    unfold md_about
    rw [if_pos q]
    refine mbabout_19 (mbabout_24 (X6_refuse_1 (d := 1)) hd (Nat.le_refl 0) (ml_krv fun σ' h => ?_) ml_no)
    subst h
    exact mbabout_27 (fun _ => mbabout_52 (fun G _ => ⟨rfl, rfl⟩)) (fun u => absurd u (by decide))
  refine mbabout_0 (fun q => bad _ (Or.inl q)) (fun q => ?_)
  refine mbabout_11 (X6_mainVariables_C (d := 1) (show md_main (ml_sf σ 2 0) from hm)) hd (Nat.le_refl 0) (ml_krv fun σ' h => ?_) ml_no
  subst h
  rw [emv]
  refine mbabout_16 (fun q2 => ?_) (fun q2 => bad _ (Or.inr q2))
  obtain ⟨v60, v6⟩ := hk q q2
  have v61 : vp_in (σ.1 49) 61 := fun u => v60 (u.elim Or.inl (fun u => Or.inr (by omega)))
  unfold md_about
  rw [if_neg (fun u => u.elim q (fun u => u q2))]
  refine mbabout_23 (mbabout_24 (X6_refuse_0 (d := 1)) hd (Nat.le_refl 0) (ml_krv fun σ' h => ?_) ml_no)
  subst h
  refine mbabout_27 (fun u => absurd rfl u) (fun _ => ?_)
  have no : ∀ E, (x < 0 ∨ ¬ x ≤ 3) → ml_V z mX6_about (d, 0, (fun v σ' _ => v = some (vI (if x < 0 ∨ ¬ x ≤ 3 then ((0 : Int32), ml_sf (ml_sf σ 2 0) 2 2) else (md_ab σ k x, ml_sf σ 2 0)).1) ∧ σ' = (if x < 0 ∨ ¬ x ≤ 3 then ((0 : Int32), ml_sf (ml_sf σ 2 0) 2 2) else (md_ab σ k x, ml_sf σ 2 0)).2), fun _ _ _ => False) 41 [(0, vR (some z.2.1)), (1, vI k), (2, vI x)] [vI 2, vR (some z.2.1)] (ml_sf σ 2 0) E 0 := by
    intro E h
    rw [if_pos h]
    refine mbabout_41 (mbabout_46 (X6_refuse_1 (d := 1)) hd (Nat.le_refl 0) (ml_krv fun σ' h => ?_) ml_no)
    subst h
    exact mbabout_49 (fun u => absurd u (by decide)) (fun _ => mbabout_52 (fun G _ => ⟨rfl, rfl⟩))
  refine mbabout_30 (fun q3 => no _ (Or.inl q3)) (fun q3 => ?_)
  refine mbabout_36 (fun q4 => ?_) (fun q4 => no _ (Or.inr q4))
  rw [if_neg (fun u => u.elim q3 (fun u => u q4))]
  refine mbabout_45 (mbabout_46 (X6_refuse_0 (d := 1)) hd (Nat.le_refl 0) (ml_krv fun σ' h => ?_) ml_no)
  subst h
  refine mbabout_49 (fun _ => ?_) (fun u => absurd rfl u)
  unfold md_ab
  refine mbabout_54 v61 (fun c => ?_) (fun c => ?_) (fun c => ?_) (fun c0 c1 c2 => ?_)
  · rw [if_pos c]
    refine mbabout_92 v60 (fun g => ?_) (fun g => ?_)
    · have g' : σ.2 13 (σ.1 49).toNatClampNeg ≤ k := g
      rw [if_neg (fun u => u g')]
      refine mbabout_109 v60 (fun g2 => ?_) (fun g2 => ?_)
      · have g3 : σ.2 13 (σ.1 49).toNatClampNeg + σ.2 14 (σ.1 49).toNatClampNeg ≤ k := g2
        rw [if_neg (fun u => u g3)]
        exact mbabout_136 (mbabout_137 (fun G _ => ⟨rfl, rfl⟩))
      · have g3 : ¬ σ.2 13 (σ.1 49).toNatClampNeg + σ.2 14 (σ.1 49).toNatClampNeg ≤ k := g2
        rw [if_pos g3]
        exact mbabout_132 (mbabout_137 (fun G _ => ⟨rfl, rfl⟩))
    · have g' : ¬ σ.2 13 (σ.1 49).toNatClampNeg ≤ k := g
      rw [if_pos g']
      exact mbabout_105 (mbabout_137 (fun G _ => ⟨rfl, rfl⟩))
  · rw [if_neg (by rw [c]; decide), if_pos c]
    refine mbabout_138 v6 (X6_truth_C (d := 1)) hd (Nat.le_refl 0) (ml_krv fun σ' h => ?_) ml_no
    subst h
    exact mbabout_147 (fun G _ => ⟨rfl, rfl⟩)
  · rw [if_neg (by rw [c]; decide), if_neg (by rw [c]; decide), if_pos c]
    refine mbabout_148 v6 (fun g => ?_) (fun g => ?_)
    · have g' : 0 ≤ σ.2 22 (σ.2 12 (σ.1 49).toNatClampNeg + k).toNatClampNeg := g
      rw [if_pos g']
      exact mbabout_161 v6 (by decide) (mbabout_169 (fun G _ => ⟨rfl, rfl⟩))
    · have g' : ¬ 0 ≤ σ.2 22 (σ.2 12 (σ.1 49).toNatClampNeg + k).toNatClampNeg := g
      rw [if_neg g']
      exact mbabout_157 (mbabout_169 (fun G _ => ⟨rfl, rfl⟩))
  · rw [if_neg c0, if_neg c1, if_neg c2]
    refine mbabout_170 v6 (fun g => ?_) (fun g => ?_)
    · have g' : 0 ≤ σ.2 22 (σ.2 12 (σ.1 49).toNatClampNeg + k).toNatClampNeg := g
      rw [if_pos g']
      exact mbabout_183 v6 (mbabout_191 (fun G _ => ⟨rfl, rfl⟩))
    · have g' : ¬ 0 ≤ σ.2 22 (σ.2 12 (σ.1 49).toNatClampNeg + k).toNatClampNeg := g
      rw [if_neg g']
      exact mbabout_179 (mbabout_191 (fun G _ => ⟨rfl, rfl⟩))
end
