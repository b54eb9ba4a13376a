/-! the walk of causes(v) -/
set_option maxRecDepth 100000
section
variable {z : MZ} {σ : MS}
theorem X6_causes_C {d v n x g t a : Nat} {R : MS} (hv : v < 6100) (h63 : σ.2 63 v = nI x) (hx : x < n) (hn : n ≤ 3200) (hin : md_in σ n) (h56 : σ.2 56 x = nI g) (hg : g < 60) (h64 : σ.2 64 v = nI t) (h12 : σ.2 12 g = nI a) (hat : a + t < 6000) (h67 : ¬ σ.1 67 < 0)
    (hd1 : σ.2 13 g ≤ nI t → ∃ k b, σ.2 46 (a + t) = nI k ∧ k < 17000 ∧ σ.2 27 k = nI b ∧ cs_H σ x b ∧ R = cs_4 (cs_1 (cs_0 σ v) (md_cv (cs_0 σ v) (x + 1) x (σ.2 22 (a + t)))) x b (σ.2 47 (a + t)))
    (hd2 : ¬ σ.2 13 g ≤ nI t → 0 ≤ σ.2 57 x → ∃ y e, σ.2 57 x = nI y ∧ σ.2 58 x = nI e ∧ e < 66000 ∧ md_ch (σ.2 35) (σ.2 34 e) (kls σ e) ∧ (∀ k ∈ kls σ e, k < 66000) ∧ t < (kls σ e).length ∧ cs_H σ y ((kls σ e).getD t 0) ∧ R = cs_4 (cs_1 (cs_0 σ v) (md_cv (cs_0 σ v) (x + 1) x (σ.2 22 (a + t)))) y ((kls σ e).getD t 0) 0)
    (hd3 : ¬ σ.2 13 g ≤ nI t → ¬ 0 ≤ σ.2 57 x → R = cs_1 (cs_0 σ v) (md_cv (cs_0 σ v) (x + 1) x (σ.2 22 (a + t)))) (hd : 3 ≤ d) :
    ml_C z mX6_causes d 0 [vR (some z.2.1), vI (nI v)] σ (fun u σ' _ => u = none ∧ σ' = R) (fun _ _ _ => False) := by
  refine ml_C_of (by decide) rfl (Nat.le_of_ble_eq_true rfl) ?_
  have cv : (nI v).toNatClampNeg = v := nI_clamp (by omega)
  have cx : (nI x).toNatClampNeg = x := nI_clamp (by omega)
  have cg : (nI g).toNatClampNeg = g := nI_clamp (by omega)
  have ca : (nI (a + t)).toNatClampNeg = a + t := nI_clamp (by omega)
  have vx : vp_in (nI x) 3200 := vp_in_nI (by omega) (by decide)
  have h0 : ¬ (cs_0 σ v).1 67 < 0 := h67
  generalize hc : md_cv (cs_0 σ v) (x + 1) x (σ.2 22 (a + t)) = c at hd1 hd2 hd3
  have at64 : ∀ S1 E, cs_same (cs_0 σ v) S1 → cs_1 (cs_0 σ v) c = S1 → ml_V z mX6_causes (d, 0, (fun u σ' _ => u = none ∧ σ' = R), fun _ _ _ => False) 64 [(0, vR (some z.2.1)), (2, vI (nI x)), (3, vI (nI g)), (4, vI (nI t))] [] S1 E 0 := by
    intro S1 E hs hq
    have q2 : ∀ q, q ≠ 65 → q ≠ 66 → S1.2 q = σ.2 q := fun q a b => by
      rw [hs.2.1 q b]
      funext j
      unfold cs_0
      rw [ml_sa_a, if_neg a]
    refine mbcauses_64 (vp_in_nI hg (by decide)) (fun u => ?_) (fun u => ?_)
    · rw [cg, q2 13 (by omega) (by omega)] at u
      obtain ⟨k, b, k1, k2, k3, k4, k5⟩ := hd1 u
      rw [hq] at k5
      have hH : cs_H S1 x b := (show cs_H (cs_0 σ v) x b from k4).cs hs
      have ck : (nI k).toNatClampNeg = k := nI_clamp (by omega)
      have cb : (nI b).toNatClampNeg = b := nI_clamp (by have := k4.2.1; omega)
      have e12 : S1.2 12 (nI g).toNatClampNeg + nI t = nI (a + t) := by rw [cg, q2 12 (by omega) (by omega), h12, nI_add]
      have e46 : S1.2 46 (S1.2 12 (nI g).toNatClampNeg + nI t).toNatClampNeg = nI k := by rw [e12, ca, q2 46 (by omega) (by omega), k1]
      have e27 : S1.2 27 (nI k).toNatClampNeg = nI b := by rw [ck, q2 27 (by omega) (by omega), k3]
      refine mbcauses_140 (P := fun u σ' _ => u = none ∧ σ' = cs_2 S1 x b ∧ cs_same S1 σ') (PX := fun _ _ _ => False) (d' := 2) (b' := 0) (vp_in_nI (by omega) (by decide)) (by rw [e12]; exact vp_in_nI (by omega) (by decide)) (by rw [e46]; exact vp_in_nI k2 (by decide)) (by rw [e46, e27]; exact cs_2_C (d := 2) hH hs.2.2 (Nat.le_refl 2)) hd (Nat.zero_le _) (ml_kr0 fun σ2 ⟨g1, g2⟩ => ?_) ml_no
      rw [e46]
      have hs2 := hs.tr g2
      have q3 : ∀ q, q ≠ 65 → q ≠ 66 → σ2.2 q = σ.2 q := fun q a b => by rw [g2.2.1 q b]; exact q2 q a b
      have hH2 : cs_H σ2 x b := hH.cs g2
      have e27' : σ2.2 27 (nI k).toNatClampNeg = nI b := by rw [ck, q3 27 (by omega) (by omega), k3]
      refine mbcauses_168 (vp_in_nI k2 (by decide)) (by rw [e27']; exact vp_in_nI hH.2.1 (by decide)) (fun w => ?_) (fun w => ?_)
      · rw [e27', cb] at w
        refine mbcauses_214 (fun G _ => ⟨rfl, ?_⟩)
        rw [k5, cs_4, ← g1, cs_3, if_neg w]
      · rw [e27', cb] at w
        have e12' : σ2.2 12 (nI g).toNatClampNeg + nI t = nI (a + t) := by rw [cg, q3 12 (by omega) (by omega), h12, nI_add]
        refine mbcauses_184 (P := fun u σ' _ => u = some (vI (σ2.2 59 (σ2.2 62 (σ2.2 61 x + σ2.2 37 b).toNatClampNeg).toNatClampNeg + σ2.2 13 (σ2.2 33 b).toNatClampNeg + σ2.2 47 (σ2.2 12 (nI g).toNatClampNeg + nI t).toNatClampNeg)) ∧ σ' = σ2) (PX := fun _ _ _ => False) (d' := 1) (b' := 0) (vp_in_nI k2 (by decide)) (vp_in_nI (by omega) (by decide)) (by rw [e12']; exact vp_in_nI (by omega) (by decide)) (by rw [e27']; exact cs_3_C (d := 1) hH2 w (Nat.le_refl 1)) (by show 1 + 1 ≤ d; omega) (Nat.zero_le _) (ml_krv fun σ3 gg => ?_) ml_no
        subst gg
        refine mbcauses_211 (X6_cause_C (d := 0) hs2.2.2) (by show 0 + 1 ≤ d; omega) (Nat.zero_le _) (ml_kr0 fun σ4 gg => ?_) ml_no
        subst gg
        refine mbcauses_214 (fun G _ => ⟨rfl, ?_⟩)
        rw [k5, cs_4, ← g1, cs_3, if_pos w, e12', ca, q3 47 (by omega) (by omega)]
    · rw [cg, q2 13 (by omega) (by omega)] at u
      refine mbcauses_75 vx (fun w => ?_) (fun w => ?_)
      · rw [cx, q2 57 (by omega) (by omega)] at w
        obtain ⟨y, e, k1, k2, k3, k4, k5, k6, k7, k8⟩ := hd2 u w
        rw [hq] at k8
        have hH : cs_H S1 y ((kls σ e).getD t 0) := (show cs_H (cs_0 σ v) y ((kls σ e).getD t 0) from k7).cs hs
        refine mbcauses_85 (P := fun u σ' _ => u = some (vI (nI ((kls σ e).getD t 0))) ∧ σ' = S1) (PX := fun _ _ _ => False) (d' := 0) (b' := 0) vx (by
          rw [cx, q2 58 (by omega) (by omega), k2]
          exact X6_argument_C k3 (by rw [q2 35 (by omega) (by omega), q2 34 (by omega) (by omega)]; exact k4) k5 k6 (by omega)) (by show 0 + 1 ≤ d; omega) (Nat.zero_le _) (ml_krv fun σ2 gg => ?_) ml_no
        subst gg
        generalize (kls σ e).getD t 0 = b at hH k8
        have cb : (nI b).toNatClampNeg = b := nI_clamp (by have := hH.2.1; omega)
        refine mbcauses_97 (P := fun u σ' _ => u = none ∧ σ' = cs_2 σ2 y b ∧ cs_same σ2 σ') (PX := fun _ _ _ => False) (d' := 2) (b' := 0) vx (by rw [cx, q2 57 (by omega) (by omega), k1]; exact cs_2_C (d := 2) hH hs.2.2 (Nat.le_refl 2)) hd (Nat.zero_le _) (ml_kr0 fun σ3 ⟨g1, g2⟩ => ?_) ml_no
        have hs2 := hs.tr g2
        have hH2 : cs_H σ3 y b := hH.cs g2
        refine mbcauses_111 (vp_in_nI hH.2.1 (by decide)) (fun w => ?_) (fun w => ?_)
        · rw [cb] at w
          refine mbcauses_139 (fun G _ => ⟨rfl, ?_⟩)
          rw [k8, cs_4, ← g1, cs_3, if_neg w]
        · rw [cb] at w
          refine mbcauses_122 (P := fun u σ' _ => u = some (vI (σ3.2 59 (σ3.2 62 (σ3.2 61 y + σ3.2 37 b).toNatClampNeg).toNatClampNeg + σ3.2 13 (σ3.2 33 b).toNatClampNeg + 0)) ∧ σ' = σ3) (PX := fun _ _ _ => False) (d' := 1) (b' := 0) vx (by rw [cx, g2.2.1 57 (by omega), q2 57 (by omega) (by omega), k1]; exact cs_3_C (d := 1) hH2 w (Nat.le_refl 1)) (by show 1 + 1 ≤ d; omega) (Nat.zero_le _) (ml_krv fun σ4 gg => ?_) ml_no
          subst gg
          refine mbcauses_136 (X6_cause_C (d := 0) hs2.2.2) (by show 0 + 1 ≤ d; omega) (Nat.zero_le _) (ml_kr0 fun σ5 gg => ?_) ml_no
          subst gg
          refine mbcauses_139 (fun G _ => ⟨rfl, ?_⟩)
          rw [k8, cs_4, ← g1, cs_3, if_pos w]
      · rw [cx, q2 57 (by omega) (by omega)] at w
        exact mbcauses_84 (fun G _ => ⟨rfl, by rw [hd3 u w, hq]⟩)
  have e12 : σ.2 12 (σ.2 56 (σ.2 63 (nI v).toNatClampNeg).toNatClampNeg).toNatClampNeg + σ.2 64 (nI v).toNatClampNeg = nI (a + t) := by rw [cv, h63, cx, h56, cg, h12, h64, nI_add]
  refine mbcauses_0 (P := fun u σ' _ => u = some (vI (md_cv (cs_0 σ v) (x + 1) x (σ.2 22 (a + t)))) ∧ σ' = cs_0 σ v) (PX := fun _ _ _ => False) (d' := 0) (b' := 0) (vp_in_nI (by omega) (by decide)) (vp_in_nI hv (by decide)) (by rw [cv, h63]; exact vx) (by rw [cv, h63, cx, h56]; exact vp_in_nI (by omega) (by decide)) (by rw [e12]; exact vp_in_nI hat (by decide)) (by
    rw [e12, ca, cv, h63]
    exact X6_clockVariable_C (σ := cs_0 σ v) hn hin hx) (by show 0 + 1 ≤ d; omega) (Nat.zero_le _) (ml_krv fun σ2 gg => ?_) ml_no
  subst gg
  rw [hc, cv, h63, cx, h56, h64]
  refine mbcauses_51 (fun u => at64 _ _ ⟨fun _ _ => rfl, fun _ _ => rfl, h0⟩ (by rw [cs_1, if_pos u])) (fun u => ?_)
  refine mbcauses_58 (X6_cause_C (d := 0) h0) (by show 0 + 1 ≤ d; omega) (Nat.zero_le _) (ml_kr0 fun σ3 gg => ?_) ml_no
  subst gg
  exact at64 _ _ (md_cause_cs h0) (by rw [cs_1, if_neg u])
end
