/-! left, equation, groups of the reference -/
set_option maxRecDepth 100000
section
variable {z : MZ} {T : Nat → Int32} {n : Nat}
theorem X6_left_W {c D : Nat} {S σ : MS} {r : PE} (hw : ml_ws z) (hs : ps n c S σ) (hT : S.2 0 = T) (hV : pe_V n S) (hi : S.2 13 (pr_N S) = nI (pr_i S)) (hi2 : pr_a S + pr_i S ≤ pr_v S) (h : pg_left T n c S = some r) (hD : 7 ≤ D) : ml_C z mX6_left D 1 [vR (some z.2.1)] σ (fun v σ' _ => pq_N n r v σ') (pq_X S r) := by
  have hpx : md_px S S := md_px.rf
  obtain ⟨v1, v2, v3, v4, v5, v6, v7, v8, v9⟩ := hV.N
  refine ml_C_of (by decide) rfl (Nat.le_of_ble_eq_true rfl) ?_
  unfold pg_left at h
  refine mbleft_0 (ps_name hs hT hw (Nat.le_refl 6)) (by show _ ≤ D; omega) (Nat.zero_le _) (ml_krv fun σ ⟨hs, hS⟩ => ?_) ml_no
  refine mbleft_4 (fun q => ?_) (fun q => ?_)
  · have qn := lx_b1 q
    rw [if_neg (by exact fun u => u qn)] at h
    refine mbleft_12 (ps_var hs hS hV (Nat.le_refl 1)) (by show _ ≤ D; omega) (Nat.zero_le _) (ml_krv fun σ ⟨hs, hS⟩ => ?_) ml_no
    have sp := lx_find_spec (P := lx_vs S n c) (b := pr_v S) (pr_v S) (pr_a S) (by omega) v6
    have hfv : pr_fv n S c ≤ pr_v S := sp.2.1
    have hle : pr_a S ≤ pr_fv n S c := sp.1
    have e18 : σ.1 18 = nI (pr_N S) := by rw [hs.s1 18 (by omega)]; exact v1
    have eai : σ.2 12 (σ.1 18).toNatClampNeg + σ.2 13 (σ.1 18).toNatClampNeg = nI (pr_a S + pr_i S) := by rw [e18, nI_clamp (by omega), hs.s2, v5, hi, nI_add]
    refine mbleft_20 (by rw [e18]; exact vp_in_nI (by omega) (by decide)) (by rw [e18]; exact vp_in_nI (by omega) (by decide)) (fun q => ?_) (fun q => ?_)
    · rw [eai] at q
      have qv : pr_fv n S c < pr_v S := Decidable.byContradiction fun u => by
        rw [if_neg u] at q
        exact absurd (Int32.le_trans (nI_pos' (n := pr_a S + pr_i S) (by omega)) q) (by decide)
      rw [if_pos qv] at q ⊢
      have q2 := (nI_leI (by omega) (by omega)).1 q
      rw [if_pos ⟨qv, q2⟩] at h
      refine mbleft_57 (ps_take hs hT (Nat.le_refl 3)) (by show _ ≤ D; omega) (Nat.zero_le _) (ml_kr0 fun σ hs => ?_) ml_no
      have e18 : σ.1 18 = nI (pr_N S) := by rw [hs.s1 18 (by omega)]; exact v1
      refine mbleft_61 (vp_in_nI (by omega) (by decide)) (by rw [e18]; exact vp_in_nI (by omega) (by decide)) (fun G => ?_)
      rw [e18, nI_clamp (by omega), nI_clamp (by omega), hs.s2, v5, pk_sub hle]
      exact pq_ret h (ps_sa hs (by omega))
    · rw [eai] at q
      rw [if_neg (by
        rintro ⟨u1, u2⟩
        rw [if_pos u1] at q
        exact q (nI_le u2 (by omega)))] at h
      refine mbleft_44 (Nat.le_refl 1) (fun q => ?_)
      refine mbleft_47 rfl (X23_init_C (Nat.le_refl 4)) (fun G g => g) (by show _ ≤ D; omega) (Nat.zero_le _) ?_
      exact mbleft_56 rfl (fun G g => g.1) (fun G g => pq_X.er h hpx g.2.1 (by rw [g.2.2, hS.2.2.2.1]) hs.2)
  · have qn := lx_b0.1 q
    rw [if_pos qn] at h
    refine mbleft_7 (X6_cant_C hs.1 (Nat.le_refl 5)) (by show _ ≤ D; omega) (Nat.le_refl 1) (fun v σ'' G g1 g2 g3 => ?_) ml_no
    obtain ⟨⟨g4, g5⟩, q1, rfl, g6, g7, g8⟩ := g3
    refine (mbleft_11 (E := fun G => hp_kd G q1 = 4 ∧ hp_i G q1 6 = 1 ∧ hp_i G q1 7 = nI c) rfl (fun G g => g.1) (fun G g => ?_)) G g1 g2 ⟨g6, g7, g8⟩
    exact pq_X.er h hpx g.2.1 g.2.2 (g4.trans hs.2)
theorem ps_pe0 {c k q : Nat} {S σ : MS} (h : ps n c S σ) : ps n c (pe_0 S k q) (pe_0 σ k q) := by
  unfold pe_0
  have h1 := ps_sa (k := 25) (j := k) (v := nI q) h (by omega)
  have h2 := ps_sa (k := 26) (j := k) (v := σ.1 31) h1 (by omega)
  have h3 := ps_sa (k := 29) (j := k) (v := σ.1 40) h2 (by omega)
  rw [h.s1 31 (by omega), h.s1 40 (by omega)] at h3 ⊢
  exact h3
/-- a left side, at the state before its number is taken -/
theorem X6_left_R {c D : Nat} {S σ : MS} {r1 : PE} (hw : ml_ws z) (hs : ps n c S σ) (hT : S.2 0 = T) (hE : pn_E n c S) (h : pe_left T n c S = some r1) (hD : 7 ≤ D) : ∃ r2, (∀ k, r2 = .inl k → r1 = .inl k) ∧ (∀ x c1 S1, r2 = .inr (x, c1, S1) → r1 = .inr (0, c1, ml_sa S1 28 (pr_l S) (nI x))) ∧
    ml_C z mX6_left D 1 [vR (some z.2.1)] (ml_sf σ 31 (σ.1 31 + 1)) (fun v σ' _ => pq_N n r2 v σ') (pq_X S r2) := by
  obtain ⟨hV, b1, b2, b3, b4, b5, b6, b7, b8, b9, b10⟩ := hE
  obtain ⟨r2, h1, hx, h2⟩ := pr_b_some h
  refine ⟨r2, hx, fun x c1 S1 e => ?_, ?_⟩
  · have := h2 _ _ _ e
    exact (Option.some.inj this).symm
  · have e31 : σ.1 31 = nI (pr_l S) := by rw [hs.s1 31 (by omega)]; exact b7
    rw [e31, nI_1]
    have sb : md_px S (ml_sf S 31 (nI (pr_l S + 1))) := ⟨⟨fun k hk => if_neg (by omega), rfl⟩, fun _ _ => rfl⟩
    refine (X6_left_W hw (ps_sf (k := 31) (v := nI (pr_l S + 1)) hs (by omega)) hT ?_ b9 b10 h1 hD).mono (fun _ _ _ q => q) (pq_kx (fun _ e => e) sb)
    obtain ⟨hn, N, a, b, h1, h2, h3, h4, h5, h6, h7, h8, h9⟩ := hV
    exact ⟨hn, N, a, b, h1, h2, h3, h4, h5, h6, h7, h8, h9⟩
theorem X6_equation_W {f c D : Nat} {S σ : MS} {r : PE} (hw : ml_ws z) (hs : ps n c S σ) (hT : S.2 0 = T) (hE : pn_E n c S) (h : pe_eq T n f c S = some r) (hD : 900 ≤ D) : ml_C z mX6_equation D 1 [vR (some z.2.1)] σ (fun v σ' _ => pq_N0 n r v σ') (pq_X S r) := by
  have hpx : md_px S S := md_px.rf
  obtain ⟨hV, b1, b2, b3, b4, b5, b6, b7, b8, b9, b10⟩ := id hE
  refine ml_C_of (by decide) rfl (Nat.le_of_ble_eq_true rfl) ?_
  have F := pq_all (z := z) (T := T) (n := n) hw f
  unfold pe_eq at h
  obtain ⟨r0, h0, hx0, h⟩ := pr_b_some h
  have hE0 := pe_0_E hE
  have s0 := pe_0_same (S := S) (k := pr_k S) (c := c)
  have hT0 : (pe_0 S (pr_k S) c).2 0 = T := by rw [s0.T]; exact hT
  have hpx0 : md_px S (pe_0 S (pr_k S) c) := s0.px
  have er0 : ∀ {k : Int32} {c : Nat}, pr_er k c = some r0 → pr_er k c = some r := fun {k c} h => by rw [hx0 (k, c) (Option.some.inj h).symm]
  -- the end
  have tail : ∀ E σ e1 c1 S1, r0 = .inr (e1, c1, S1) → ps n c1 S1 σ → S1.2 0 = T → S1.1 30 = nI (pr_k S) → md_px S S1 → ml_V z mX6_equation (D, 1, (fun v σ' _ => pq_N0 n r v σ'), pq_X S r) 221 [(0, vR (some z.2.1))] [] σ E 1 := by
    intro E σ e1 c1 S1 he hs hT1 hk1 hpx1
    have h := h _ _ _ he
    unfold pe_end at h
    refine mbequation_221 (ps_must hs hT1 (Nat.le_refl 6)) (by show _ ≤ D; omega) (Nat.le_refl 1) (ml_kr0 fun σ ⟨hq, hs⟩ => ?_) (fun kd pl σ' ⟨g1, g2, g3, g4⟩ => by rw [if_neg g1] at h; exact pq_X.er h hpx1 g2 g3 g4)
    rw [if_pos hq] at h
    have e30 : σ.1 30 = nI (pr_k S) := by rw [hs.s1 30 (by omega)]; exact hk1
    refine mbequation_227 (by rw [e30, nI_1]; exact vp_in_nI (by omega) (by decide)) (fun G => ?_)
    rw [e30, nI_1, nI_clamp (by omega), hs.s1 31 (by omega)]
    exact pq_ret0 h (ps_sa (ps_sf hs (by omega)) (by omega))
  refine mbequation_0 (ps_peek hs hT (Nat.le_refl 2)) (by show _ ≤ D; omega) (Nat.zero_le _) (ml_krv fun σ ⟨hs, hS⟩ => ?_) ml_no
  have e30 : σ.1 30 = nI (pr_k S) := by rw [hs.s1 30 (by omega)]; exact b5
  refine mbequation_4 (P := fun v σ' _ => v = some (vI (lx_kind T n c)) ∧ ps n c (pe_0 S (pr_k S) c) σ' ∧ lx_S n c σ') (PX := fun _ _ _ => False) (d' := 2) (b' := 0) (by rw [e30]; exact vp_in_nI (by omega) (by decide)) (by rw [e30]; exact vp_in_nI (by omega) (by decide)) (by rw [e30, hS.2.2.2.1, nI_clamp (by omega)]; exact ps_peek (ps_pe0 hs) hT0 (Nat.le_refl 2)) (by show _ ≤ D; omega) (Nat.zero_le _) (ml_krv fun σ ⟨hs, hS⟩ => ?_) ml_no
  refine mbequation_48 (fun q => ?_) (fun q => ?_)
  · rw [if_pos q] at h0
    obtain ⟨t1, t2⟩ := lx_tk (T := T) (n := n) (c := c) (by rw [q]; decide)
    unfold pe_many at h0
    obtain ⟨r1, h1, hx1, h0⟩ := pr_b_some h0
    have hE1 : pn_E n (lx_next T n c) (pe_0 S (pr_k S) c) := by
      obtain ⟨hV, b1, b2, b3, b4, b5, b6, b7, b8, b9⟩ := hE0
      exact ⟨hV, t2, b2, b3, by omega, b5, by omega, b7, by omega, b9⟩
    refine mbequation_96 (ps_take hs hT0 (Nat.le_refl 3)) (by show _ ≤ D; omega) (Nat.zero_le _) (ml_kr0 fun σ hs => ?_) ml_no
    obtain ⟨r2, y1, y2, y3⟩ := X6_left_R hw hs hT0 hE1 h1 (Nat.le_refl 7)
    have e31 : σ.1 31 = nI (pr_l S) := by rw [hs.s1 31 (by omega)]; exact b7
    refine mbequation_100 y3 (by show _ ≤ D; omega) (Nat.le_refl 1) (pq_kr fun x1 c1 σ he1 hs => ?_) (pq_kx (fun k e => hx0 k (hx1 k (y1 k e))) hpx0)
    rw [e31]
    refine mbequation_119 (vp_in_nI (by omega) (by decide)) ?_
    rw [nI_clamp (by omega)]
    have hs := ps_sa (k := 28) (j := pr_l S) (v := nI x1) hs (by omega)
    have he2 := y2 _ _ _ he1
    have h0 := h0 _ _ _ he2
    rw [he2] at h1
    obtain ⟨-, q1, q2, hR⟩ := pe_left_R h1 hE1
    obtain ⟨r3, h3, hx3, h0⟩ := pr_b_some h0
    change ps n c1 (ml_sa (lx_nz σ) 28 (pr_l S) (nI x1)) (ml_sa σ 28 (pr_l S) (nI x1)) at hs
    change pl_R n (pe_0 S (pr_k S) c) (lx_next T n c) c1 (ml_sa (lx_nz σ) 28 (pr_l S) (nI x1)) at hR
    change pe_lefts T n f c1 (ml_sa (lx_nz σ) 28 (pr_l S) (nI x1)) = some r3 at h3
    generalize ml_sa σ 28 (pr_l S) (nI x1) = σ1 at hs
    generalize ml_sa (lx_nz σ) 28 (pr_l S) (nI x1) = S1 at hs hR h3
    -- the loop over the left sides
    have lp : ∀ f c1 S1 σ E, pe_lefts T n f c1 S1 = some r3 → ps n c1 S1 σ → pl_R n (pe_0 S (pr_k S) c) (lx_next T n c) c1 S1 → (∀ c2 S2 σ E, r3 = .inr (0, c2, S2) → ps n c2 S2 σ → pl_R n (pe_0 S (pr_k S) c) (lx_next T n c) c2 S2 → ml_V z mX6_equation (D, 1, (fun v σ' _ => pq_N0 n r v σ'), pq_X S r) 156 [(0, vR (some z.2.1))] [] σ E 1) → ml_V z mX6_equation (D, 1, (fun v σ' _ => pq_N0 n r v σ'), pq_X S r) 120 [(0, vR (some z.2.1))] [] σ E 1 := by
      intro f
      induction f with
      | zero => intro c1 S1 σ E h3; cases h3
      | succ f ih =>
        intro c1 S1 σ E h3 hs hR K
        have hT1 : S1.2 0 = T := by rw [hR.2.2.1.T]; exact hT0
        have hpx1 := hpx0.tr hR.2.2.1.px
        unfold pe_lefts at h3
        refine mbequation_120 (ps_peek hs hT1 (Nat.le_refl 2)) (by show _ ≤ D; omega) (Nat.zero_le _) (ml_krv fun σ ⟨hs, hS⟩ => ?_) ml_no
        refine mbequation_124 (fun q => ?_) (fun q => ?_)
        · rw [if_neg q] at h3
          exact K _ _ _ _ (Option.some.inj h3).symm hs hR
        · rw [if_pos q] at h3
          obtain ⟨t3, t4⟩ := lx_tk (T := T) (n := n) (c := c1) (by rw [q]; decide)
          obtain ⟨r4, h4, hx4, h3⟩ := pr_b_some h3
          have hE2 : pn_E n (lx_next T n c1) S1 := by
            obtain ⟨hV, b1, b2, b3, b4, b5, b6, b7, b8, b9⟩ := hR.1
            exact ⟨hV, t4, b2, b3, by omega, b5, by omega, b7, by omega, b9⟩
          refine mbequation_129 (ps_take hs hT1 (Nat.le_refl 3)) (by show _ ≤ D; omega) (Nat.zero_le _) (ml_kr0 fun σ hs => ?_) ml_no
          obtain ⟨r5, y1, y2, y3⟩ := X6_left_R hw hs hT1 hE2 h4 (Nat.le_refl 7)
          have e31 : σ.1 31 = nI (pr_l S1) := by rw [hs.s1 31 (by omega)]; exact hE2.2.2.2.2.2.2.2.1
          have hl1 := hE2.2.2.2.2.2.2.2.2.1
          refine mbequation_133 y3 (by show _ ≤ D; omega) (Nat.le_refl 1) (pq_kr fun x2 c2 σ he2 hs => ?_) (pq_kx (fun k e => hx0 k (hx3 k (hx4 k (y1 k e)))) hpx1)
          rw [e31]
          refine mbequation_152 (vp_in_nI (by omega) (by decide)) ?_
          rw [nI_clamp (by omega)]
          have hs := ps_sa (k := 28) (j := pr_l S1) (v := nI x2) hs (by omega)
          have he3 := y2 _ _ _ he2
          rw [he3] at h4
          obtain ⟨-, -, -, hR2⟩ := pe_left_R h4 hE2
          exact ih _ _ _ _ (h3 _ _ _ he3) hs (hR.tr ⟨hR2.1, by have := hR2.2.1; omega, hR2.2.2⟩) K
    refine lp f c1 S1 σ1 _ h3 hs hR (fun c2 S2 σ E he3 hs hR => ?_)
    have h0 := h0 _ _ _ he3
    have hT2 : S2.2 0 = T := by rw [hR.2.2.1.T]; exact hT0
    have hpx2 := hpx0.tr hR.2.2.1.px
    obtain ⟨hV2, d1, d2, d3, d4, d5, d6, d7, d8, d9, d10⟩ := id hR.1
    have hk2 : pr_k S2 = pr_k S := hR.2.2.2.1
    refine mbequation_156 (ps_must hs hT2 (Nat.le_refl 6)) (by show _ ≤ D; omega) (Nat.le_refl 1) (ml_kr0 fun σ ⟨hq, hs⟩ => ?_) (fun kd pl σ' ⟨g1, g2, g3, g4⟩ => by rw [if_neg g1] at h0; exact pq_X.er (er0 h0) hpx2 g2 g3 g4)
    rw [if_pos hq] at h0
    obtain ⟨t3, t4⟩ := lx_tk (T := T) (n := n) (c := c2) (by rw [hq]; decide)
    refine mbequation_162 (ps_must hs hT2 (Nat.le_refl 6)) (by show _ ≤ D; omega) (Nat.le_refl 1) (ml_kr0 fun σ ⟨hq2, hs⟩ => ?_) (fun kd pl σ' ⟨g1, g2, g3, g4⟩ => by rw [if_neg g1] at h0; exact pq_X.er (er0 h0) hpx2 g2 g3 g4)
    rw [if_pos hq2] at h0
    obtain ⟨t5, t6⟩ := lx_tk (T := T) (n := n) (c := lx_next T n c2) (by rw [hq2]; decide)
    refine mbequation_168 (ps_name hs hT2 hw (Nat.le_refl 6)) (by show _ ≤ D; omega) (Nat.zero_le _) (ml_krv fun σ ⟨hs, hS⟩ => ?_) ml_no
    refine mbequation_172 (fun q => ?_) (fun q => ?_)
    · have qn := lx_b1 q
      rw [if_neg (by exact fun u => u qn)] at h0
      obtain ⟨t7, t8⟩ := lx_tkn qn
      have len := (lx_find_spec (P := lx_ns S2 n (lx_next T n (lx_next T n c2))) (b := pr_N S2) (pr_N S2) 0 (by omega) (Nat.zero_le _)).2.1
      have hN2 := hV2.N.2.1
      refine mbequation_180 (ps_node hs hS hV2 (Nat.le_refl 1)) (by show _ ≤ D; omega) (Nat.zero_le _) (ml_krv fun σ ⟨hs, hS⟩ => ?_) ml_no
      refine mbequation_184 (fun q6 => ?_) (fun q6 => ?_)
      · have qv : pr_fn n S2 (lx_next T n (lx_next T n c2)) < pr_N S2 := Decidable.byContradiction fun u => absurd ((lx_m1 (by unfold pr_fn; omega)).2 u) (Int32.not_lt.2 q6)
        rw [if_pos qv] at h0 ⊢
        obtain ⟨r6, h6, hx6, h0⟩ := pr_b_some h0
        refine mbequation_202 (ps_take hs hT2 (Nat.le_refl 3)) (by show _ ≤ D; omega) (Nat.zero_le _) (ml_kr0 fun σ hs => ?_) ml_no
        have e30 : σ.1 30 = nI (pr_k S) := by rw [hs.s1 30 (by omega), d5, hk2]
        have hC := F.1.2.1 (pr_fn n S2 (lx_next T n (lx_next T n c2))) 0 _ S2 σ r6 846 qv hs hT2 ⟨_, d3, by omega, t8, hV2⟩ (by omega) h6 (by omega)
        rw [nI_0] at hC
        refine mbequation_206 hC (by show _ ≤ D; omega) (Nat.le_refl 1) (pq_kr fun x4 c4 σ he4 hs => ?_) (pq_kx (fun k e => hx0 k (hx6 k e)) hpx2)
        rw [e30]
        generalize lx_nz σ = S4 at he4 hs
        have h0 := h0 _ _ _ he4
        have hR6 := (F.1.R4 h6 he4 (by omega) d3 (by omega) t8 hV2 hT2 hpx2 (fun _ => qv)).1
        refine mbequation_220 (vp_in_nI (by omega) (by decide)) ?_
        rw [nI_clamp (by omega)]
        refine tail _ _ _ _ _ (Option.some.inj h0).symm (ps_sa hs (by omega)) ?_ ?_ ?_
        · show (ml_sa S4 27 (pr_k S) (nI x4)).2 0 = T
          rw [show (ml_sa S4 27 (pr_k S) (nI x4)).2 0 = S4.2 0 from funext fun j => by rw [ml_sa_a, if_neg (by omega)], hR6.1.2 0 (by omega) (by omega) (by omega)]
          exact hT2
        · show S4.1 30 = _
          rw [hR6.1.1 30 (by omega), d5, hk2]
        · exact (hpx2.tr hR6.1.px).tr ⟨⟨fun _ _ => rfl, by rw [ml_sa_a, if_neg (by omega)]⟩, fun q hq => funext fun j => by rw [ml_sa_a, if_neg (by omega)]⟩
      · have qv : ¬ pr_fn n S2 (lx_next T n (lx_next T n c2)) < pr_N S2 := fun u => q6 (by rw [if_pos u]; exact nI_pos' (by omega))
        rw [if_neg qv] at h0
        refine mbequation_189 (Nat.le_refl 1) (fun q => ?_)
        refine mbequation_192 rfl (X23_init_C (Nat.le_refl 4)) (fun G g => g) (by show _ ≤ D; omega) (Nat.zero_le _) ?_
        exact mbequation_201 rfl (fun G g => g.1) (fun G g => pq_X.er (er0 h0) hpx2 g.2.1 (by rw [g.2.2, hS.2.2.2.1]) hs.2)
    · have qn := lx_b0.1 q
      rw [if_pos qn] at h0
      refine mbequation_175 (X6_cant_C hs.1 (Nat.le_refl 5)) (by show _ ≤ D; omega) (Nat.le_refl 1) (fun v σ'' G g1 g2 g3 => ?_) ml_no
      obtain ⟨⟨g4, g5⟩, q1, rfl, g6, g7, g8⟩ := g3
      refine (mbequation_179 (E := fun G => hp_kd G q1 = 4 ∧ hp_i G q1 6 = 1 ∧ hp_i G q1 7 = nI (lx_next T n (lx_next T n c2))) rfl (fun G g => g.1) (fun G g => ?_)) G g1 g2 ⟨g6, g7, g8⟩
      exact pq_X.er (er0 h0) hpx2 g.2.1 g.2.2 (g4.trans hs.2)
  · rw [if_neg q] at h0
    unfold pe_one at h0
    obtain ⟨r1, h1, hx1, h0⟩ := pr_b_some h0
    obtain ⟨r2, y1, y2, y3⟩ := X6_left_R hw hs hT0 hE0 h1 (Nat.le_refl 7)
    have e31 : σ.1 31 = nI (pr_l S) := by rw [hs.s1 31 (by omega)]; exact b7
    refine mbequation_53 y3 (by show _ ≤ D; omega) (Nat.le_refl 1) (pq_kr fun x1 c1 σ he1 hs => ?_) (pq_kx (fun k e => hx0 k (hx1 k (y1 k e))) hpx0)
    rw [e31]
    have hs := ps_sa (k := 28) (j := pr_l S) (v := nI x1) hs (by omega)
    have he2 := y2 _ _ _ he1
    have h0 := h0 _ _ _ he2
    rw [he2] at h1
    obtain ⟨-, q1, q2, hR⟩ := pe_left_R h1 hE0
    change ps n c1 (ml_sa (lx_nz σ) 28 (pr_l S) (nI x1)) (ml_sa σ 28 (pr_l S) (nI x1)) at hs
    change pl_R n (pe_0 S (pr_k S) c) c c1 (ml_sa (lx_nz σ) 28 (pr_l S) (nI x1)) at hR
    have hT2 : (ml_sa (lx_nz σ) 28 (pr_l S) (nI x1)).2 0 = T := by rw [hR.2.2.1.T]; exact hT0
    have hpx2 := hpx0.tr hR.2.2.1.px
    obtain ⟨hV2, d1, d2, d3, d4, d5, d6, d7, d8, d9, d10⟩ := id hR.1
    have hk2 : pr_k (ml_sa (lx_nz σ) 28 (pr_l S) (nI x1)) = pr_k S := hR.2.2.2.1
    change (if lx_kind T n c1 = 61 then pr_b (pp T n f 0 0 0 [] (lx_next T n c1) (ml_sa (lx_nz σ) 28 (pr_l S) (nI x1))) fun e c2 S2 => pr_ok 0 c2 (ml_sa S2 27 (pr_k S) (nI e)) else pr_er 1 c1) = some r0 at h0
    have hcl : (nI (pr_l S)).toNatClampNeg = pr_l S := nI_clamp (by omega)
    refine mbequation_72 (P := fun v σ' _ => v = none ∧ lx_kind T n c1 = 61 ∧ ps n (lx_next T n c1) (ml_sa (lx_nz σ) 28 (pr_l S) (nI x1)) σ') (PX := fun kd pl σ' => lx_kind T n c1 ≠ 61 ∧ kd = 1 ∧ pl = nI c1 ∧ lx_nz σ' = ml_sa (lx_nz σ) 28 (pr_l S) (nI x1)) (d' := 6) (b' := 1) (vp_in_nI (by omega) (by decide)) (by rw [hcl]; exact ps_must hs hT2 (Nat.le_refl 6)) (by show _ ≤ D; omega) (Nat.le_refl 1) (ml_kr0 fun σ' ⟨hq, hs⟩ => ?_) (fun kd pl σ' ⟨g1, g2, g3, g4⟩ => by rw [if_neg g1] at h0; exact pq_X.er (er0 h0) hpx2 g2 g3 g4)
    rw [if_pos hq] at h0
    obtain ⟨t3, t4⟩ := lx_tk (T := T) (n := n) (c := c1) (by rw [hq]; decide)
    generalize ml_sa (lx_nz σ) 28 (pr_l S) (nI x1) = S2 at *
    obtain ⟨r6, h6, hx6, h0⟩ := pr_b_some h0
    have e30 : σ'.1 30 = nI (pr_k S) := by rw [hs.s1 30 (by omega), d5, hk2]
    have hC := F.1.1 0 0 _ S2 σ' r6 860 (by decide) hs hT2 ⟨_, d3, by omega, t4, hV2⟩ (by omega) h6 (by omega)
    rw [nI_0] at hC
    refine mbequation_79 hC (by show _ ≤ D; omega) (Nat.le_refl 1) (pq_kr fun x4 c4 σ he4 hs => ?_) (pq_kx (fun k e => hx0 k (hx6 k e)) hpx2)
    rw [e30]
    generalize lx_nz σ = S4 at he4 hs
    have h0 := h0 _ _ _ he4
    have hR6 := (F.1.R4 h6 he4 (by omega) d3 (by omega) t4 hV2 hT2 hpx2 (fun u => absurd u (by omega))).1
    refine mbequation_92 (vp_in_nI (by omega) (by decide)) ?_
    rw [nI_clamp (by omega)]
    refine tail _ _ _ _ _ (Option.some.inj h0).symm (ps_sa hs (by omega)) ?_ ?_ ?_
    · show (ml_sa S4 27 (pr_k S) (nI x4)).2 0 = T
      rw [show (ml_sa S4 27 (pr_k S) (nI x4)).2 0 = S4.2 0 from funext fun j => by rw [ml_sa_a, if_neg (by omega)], hR6.1.2 0 (by omega) (by omega) (by omega)]
      exact hT2
    · show S4.1 30 = _
      rw [hR6.1.1 30 (by omega), d5, hk2]
    · exact (hpx2.tr hR6.1.px).tr ⟨⟨fun _ _ => rfl, by rw [ml_sa_a, if_neg (by omega)]⟩, fun q hq => funext fun j => by rw [ml_sa_a, if_neg (by omega)]⟩
end
