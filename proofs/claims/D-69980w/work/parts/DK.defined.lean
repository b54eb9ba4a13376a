/-! THE COMPONENT's PARSER: states that differ where it doesn't look; defined -/
set_option maxRecDepth 100000
section
variable {q : PZ} {S S' S0 : MS} {X X0 : Nat → Nat} {G G' G0 : GH} {lo : Nat}
/-- names, types, clocks stand -/
def pE_same (S S' : MS) : Prop := S'.1 18 = S.1 18 ∧ S'.1 19 = S.1 19 ∧ pr_a S' = pr_a S ∧ ∀ k, k = 0 ∨ k = 10 ∨ k = 11 ∨ (20 ≤ k ∧ k ≤ 22) ∨ k = 24 → S'.2 k = S.2 k
theorem pq_same.E (h : pq_same S S') : pE_same S S' := ⟨h.1 18 (by decide) (by decide) (by decide), h.1 19 (by decide) (by decide) (by decide), h.a, fun k hk => h.2 k (by omega) (by omega) (by omega) (by omega) (by omega)⟩
theorem pE_same.N (h : pE_same S S') : pr_N S' = pr_N S := by rw [pr_N, pr_N, h.1]
theorem pE_same.v (h : pE_same S S') : pr_v S' = pr_v S := by rw [pr_v, pr_v, h.2.1]
theorem pE_same.a (h : pE_same S S') : pr_a S' = pr_a S := h.2.2.1
theorem vx.cgE {v : Nat} (h : vx q S G v) (e : pE_same S S') : vx q S' G v := by
  have n2 : nlv (rz_T q.1) S' = nlv (rz_T q.1) S := by unfold nlv; rw [e.2.2.2 20 (by omega), e.2.2.2 21 (by omega)]
  unfold vx at h ⊢
  rw [e.a, n2, e.2.2.2 24 (by omega), e.2.2.2 22 (by omega), md_dep_22 (e.2.2.2 22 (by omega))]
  exact h
theorem env.cgE {b : Nat} (h : env q S b G) (e : pE_same S S') : env q S' b G := by
  have n1 : nln (rz_T q.1) S' = nln (rz_T q.1) S := by unfold nln; rw [e.2.2.2 10 (by omega), e.2.2.2 11 (by omega)]
  have n2 : nlv (rz_T q.1) S' = nlv (rz_T q.1) S := by unfold nlv; rw [e.2.2.2 20 (by omega), e.2.2.2 21 (by omega)]
  obtain ⟨h1, h2, h3, h4, h5, h6⟩ := h
  refine ⟨h1, h2, ?_, ?_, ?_, fun v v1 v2 => (h6 v (by rw [← e.a]; exact v1) v2).cgE e⟩
  · rw [e.N, n1]; exact h3
  · rw [e.a, n2]; exact h4
  · rw [e.N]; exact h5
theorem pst.cgE {c : Nat} (h : pst q lo c S X G) (e : pE_same S S') (h40 : S'.1 40 = S.1 40) (hq : ∀ k, k = 32 ∨ k = 33 ∨ k = 34 ∨ k = 35 ∨ k = 39 → S'.2 k = S.2 k) : pst q lo c S' X G := by
  obtain ⟨h1, h2, h3, h4⟩ := h
  have ep : pr_p S' = pr_p S := by rw [pr_p, pr_p, h40]
  refine ⟨h1, by rw [e.v]; exact h2.cgE e, fun x e1 e2 => ?_, by rw [e.2.2.2 0 (by omega)]; exact h4⟩
  rw [ep] at e2
  have g := h3 x e1 e2
  unfold xe xht xh at g ⊢
  rw [hq 32 (by omega), hq 33 (by omega), hq 34 (by omega), hq 35 (by omega), hq 39 (by omega), e.a]
  exact g
theorem pin.of (h : rx q.1 no9 G0 G) (h2 : rkk q.1 G0 G) : pin q S X G0 S X G := ⟨pe_same.rf, Nat.le_refl _, fun _ _ => rfl, fun j a b => absurd b (by omega), h, h2⟩
/-- what a definition's left side answers -/
def df_V (q : PZ) (S : MS) (c : Nat) : Prop := lx_name (rz_T q.1) (rz_n q.1) c ∧ pr_fv (rz_n q.1) S c < pr_v S ∧ pr_a S + pr_i S ≤ pr_fv (rz_n q.1) S c
def df_X (q : PZ) (S : MS) (c : Nat) (k : Int32) : Prop := (¬ lx_name (rz_T q.1) (rz_n q.1) c ∧ k = 1) ∨ (lx_name (rz_T q.1) (rz_n q.1) c ∧ ¬ (pr_fv (rz_n q.1) S c < pr_v S ∧ pr_a S + pr_i S ≤ pr_fv (rz_n q.1) S c) ∧ k = 2)
theorem df_X.left {c : Nat} {k : Int32} (h : df_X q S c k) : pe_left (rz_T q.1) (rz_n q.1) c S = pr_er k c := by
  unfold pe_left pg_left
  rcases h with ⟨a, rfl⟩ | ⟨a, b, rfl⟩
  · rw [if_pos a]; rfl
  · rw [if_neg (fun u => u a)]
    have e : ¬ (pr_fv (rz_n q.1) (ml_sf S 31 (nI (pr_l S + 1))) c < pr_v (ml_sf S 31 (nI (pr_l S + 1))) ∧ pr_a (ml_sf S 31 (nI (pr_l S + 1))) + pr_i (ml_sf S 31 (nI (pr_l S + 1))) ≤ pr_fv (rz_n q.1) (ml_sf S 31 (nI (pr_l S + 1))) c) := b
    rw [if_neg e]; rfl
theorem df_V.left {c : Nat} (h : df_V q S c) : pe_left (rz_T q.1) (rz_n q.1) c S = pr_ok 0 (lx_next (rz_T q.1) (rz_n q.1) c) (pl_S S (pr_fv (rz_n q.1) S c - pr_a S)) := by
  unfold pe_left pg_left
  obtain ⟨a, b1, b2⟩ := h
  rw [if_neg (fun u => u a)]
  have e : pr_fv (rz_n q.1) (ml_sf S 31 (nI (pr_l S + 1))) c < pr_v (ml_sf S 31 (nI (pr_l S + 1))) ∧ pr_a (ml_sf S 31 (nI (pr_l S + 1))) + pr_i (ml_sf S 31 (nI (pr_l S + 1))) ≤ pr_fv (rz_n q.1) (ml_sf S 31 (nI (pr_l S + 1))) c := ⟨b1, b2⟩
  rw [if_pos e]
  unfold pl_S
  rw [show pr_a S + (pr_fv (rz_n q.1) S c - pr_a S) = pr_fv (rz_n q.1) S c by omega]
  rfl
theorem X3_defined_C {c d : Nat} (h : pst q lo c S X G) (hV : pe_V (rz_n q.1) S) (hK : ∀ v, pr_a S ≤ v → v < pr_v S → (qK q v = 0 ↔ v < pr_a S + pr_i S)) (hcmp : cmp_o q.1.1) (hd : 26 ≤ d) : wk_C q.1.1 mX3_defined d 10 [vR (some q.1.2.1)] G
    (fun v G' => df_V q S c ∧ v = some (vR (some (qV q (pr_fv (rz_n q.1) S c)))) ∧ pst q lo (lx_next (rz_T q.1) (rz_n q.1) c) S X G' ∧ rx q.1 no9 G G' ∧ rkk q.1 G G') (fun E a G' => ∃ k, df_X q S c k ∧ er q.1 no9 G k c E a G') := by
  have k1 := h.1.1.1.1
  have hfl := pr_fv_le (c := c) hV
  refine wk_C_of (by decide) rfl (Nat.le_of_ble_eq_true rfl) ?_
  refine blX3_defined_0 k1 (X3_isName_C (d := 5) h.1 h.2.1.1.1 (Nat.le_refl 5)) (by show 5 + 1 ≤ d; omega) (Nat.zero_le _) ?_ (fun _ _ _ u => absurd u id)
  rintro v G1 ⟨rfl, r1, r2⟩
  obtain ⟨h1, p1⟩ := h.scan r1 r2
  have k11 := h1.1.1.1.1
  have erk : ∀ {k G2 E a}, er q.1 no9 G1 k c E a G2 → er q.1 no9 G k c E a G2 := fun u => u.of p1.2.2.2.2.1 (fun j hj => p1.2.2.2.2.2 j (by omega)) (fun _ _ u => u)
  refine blX3_defined_4 (fun u => ?_) (fun u => ?_)
  · have hnm := lx_b1 u
    obtain ⟨y1, y2, y3⟩ := h1.2.1.2.1
    obtain ⟨hv, v1, v2⟩ := h1.2.1.2.2.2.1
    obtain ⟨wa, w1, w2⟩ := h1.1.2.2.2.2.2.1 hnm.1
    refine blX3_defined_12 k11 y3 y1 v1 v2.1.1 (by rw [w1]; exact X3_getv (d := 25) h1 w2 hnm.1 v1 hcmp (Nat.le_refl 25)) (by show 25 + 1 ≤ d; omega) (Nat.zero_le _) ?_ (fun _ _ _ u => absurd u id)
    rintro v G2 ⟨rfl, h2, p2⟩
    have k12 := h2.1.1.1.1
    have erk2 : ∀ {k G3 E a}, er q.1 no9 G2 k c E a G3 → er q.1 no9 G k c E a G3 := fun u => erk (u.of p2.2.2.2.2.1 (fun j hj => p2.2.2.2.2.2 j (by omega)) (fun _ _ u => u))
    have bad2 : ∀ r, ¬ (pr_fv (rz_n q.1) S c < pr_v S ∧ pr_a S + pr_i S ≤ pr_fv (rz_n q.1) S c) → wk_V q.1.1 mX3_defined (d, 10, (fun v G' => df_V q S c ∧ v = some (vR (some (qV q (pr_fv (rz_n q.1) S c)))) ∧ pst q lo (lx_next (rz_T q.1) (rz_n q.1) c) S X G' ∧ rx q.1 no9 G G' ∧ rkk q.1 G G'), (fun E a G' => ∃ k, df_X q S c k ∧ er q.1 no9 G k c E a G'), hp_cs G, hp_ss G) 41 [(0, vR (some q.1.2.1))] [] G2 r := by
      intro r hb
      refine blX3_defined_41 k12 (by rw [h2.1.2.2.1]; exact X3_fail_C (d := 0) h2.1.1) (by show 0 + 1 ≤ d; omega) (Nat.zero_le _) ?_ (fun _ _ _ u => absurd u id)
      rintro v G3 ⟨rfl, g1, g2⟩
      refine blX3_defined_50 rfl (by rw [g2]; decide) (by rw [g2]; decide) (wk_out0 rfl ⟨2, Or.inr ⟨hnm, hb, rfl⟩, ?_⟩)
      rw [g2]
      exact erk2 g1
    by_cases hlt : pr_fv (rz_n q.1) S c < pr_v S
    · rw [if_pos hlt]
      obtain ⟨⟨x1, x2⟩, -, -, x3, -⟩ := h2.2.1.2.2.2.2.2 _ hfl hlt
      refine blX3_defined_26 (fun y hy => ?_) (fun hy => by cases hy) (fun _ _ => ?_)
      · rw [← Option.some.inj hy, x1]
        exact ⟨by decide, by decide, Or.inl rfl⟩
      · refine blX3_defined_34 rfl x1 (fun w => ?_) (fun w => ?_)
        · rw [x3] at w
          have hge : pr_a S + pr_i S ≤ pr_fv (rz_n q.1) S c := Nat.le_of_not_lt fun u => w ((hK _ hfl hlt).2 u)
          refine blX3_defined_51 k12 (X3_scan_A (d := 7) h2.1 (Nat.le_refl 7)) (by show 7 + 1 ≤ d; omega) (Nat.le_refl _) ?_ (fun _ _ _ u => absurd u id)
          rintro v G3 ⟨rfl, r3, r4⟩
          obtain ⟨h3, p3⟩ := h2.scan r3 r4
          have pp := (p1.tr p2).tr p3
          exact blX3_defined_55 ⟨⟨hnm, hlt, hge⟩, rfl, h3, pp.2.2.2.2.1, pp.2.2.2.2.2⟩
        · rw [x3] at w
          exact bad2 _ (fun u => absurd ((hK _ hfl hlt).1 w) (by omega))
    · rw [if_neg hlt]
      exact blX3_defined_26 (fun y hy => by cases hy) (fun _ => bad2 _ (fun u => hlt u.1)) (fun _ hy => by cases hy)
  · have hnm := lx_b0.1 u
    refine blX3_defined_7 k11 (X3_misfit_C (d := 1) h1.1 (Nat.le_refl 1)) (by show 1 + 1 ≤ d; omega) (Nat.zero_le _) ?_ (fun _ _ _ u => absurd u id)
    rintro v G2 ⟨rfl, g1, g2⟩
    refine blX3_defined_11 rfl (by rw [g2]; decide) (by rw [g2]; decide) (wk_out0 rfl ⟨1, Or.inl ⟨hnm, rfl⟩, ?_⟩)
    rw [g2]
    exact erk g1
end
