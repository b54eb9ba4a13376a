/-! the contract of node -/
set_option maxRecDepth 100000
section
variable {z : MZ} {T : Nat → Int32} {n : Nat}
/-- from 'let' on -/
theorem node_body {f c c1 c5 D : Nat} {S S5 σ : MS} {E : GH → Prop} {r r5 : PE} (hw : ml_ws z) (hI : nd_I n c S) (hT : S.2 0 = T) (h1 : c ≤ c1) (h2 : c1 ≤ n) (hN : pr_N S ≠ 59) (h3 : nd_hd T n f (lx_next T n c1) (nd_0 S c1 (lx_end T n c1)) = some r5) (he : r5 = .inr (0, c5, S5)) (hs : ps n c5 S5 σ) (h : nd_bd T n f c5 S5 = some r) (hD : 950 ≤ D) : ml_V z mX6_node (D, 1, (fun v σ' _ => pq_N0 n r v σ'), pq_X S r) 242 [(0, vR (some z.2.1))] [] σ E 1 := by
  subst he
  obtain ⟨hI0, ha0, px0⟩ := nd_A (T := T) hI h1 h2
  obtain ⟨-, a2, a3, a4, -⟩ := nd_hd_ok h3 hI0 ((px0.2 0 (Or.inl rfl)).trans hT) ha0
  have hN0 : pr_N (nd_0 S c1 (lx_end T n c1)) = pr_N S := rfl
  have e30' : (nd_0 S c1 (lx_end T n c1)).1 = S.1 := rfl
  have eN : pr_N S5 = pr_N S := a4.N.trans hN0
  have ek : S5.1 30 = S.1 30 := by rw [a4.1 30 (by omega), e30']
  have px5 := px0.tr a4.px
  have hT5 : S5.2 0 = T := (px5.2 0 (Or.inl rfl)).trans hT
  obtain ⟨w1, w2, w3, w4, w5, w6, w7, w8, w9⟩ := a2.1.N
  obtain ⟨hJ, -, -, -, -, -, -, i6, -⟩ := id hI
  have hN59 : pr_N S < 59 := by have := hJ.1.N.2.1; omega
  have e18 : σ.1 18 = nI (pr_N S) := by rw [hs.s1 18 (by omega), w1, eN]
  have c0 : (nI (pr_N S)).toNatClampNeg = pr_N S := nI_clamp (by omega)
  have cc1 : (nI (pr_N S) + 1).toNatClampNeg = pr_N S + 1 := by rw [nI_1, nI_clamp (by omega)]
  have px12 : ∀ x, md_px S5 (ml_sa S5 12 (pr_N S + 1) x) := fun x => ⟨⟨fun _ _ => rfl, by rw [ml_sa_a, if_pos rfl, if_neg (by omega)]⟩, fun k hk => funext fun j => by rw [ml_sa_a, if_neg (by omega)]⟩
  unfold nd_bd at h
  refine mbnode_242 (P := fun v σ' _ => v = none ∧ lx_isW T n c5 "let" ∧ ps n (lx_next T n c5) (ml_sa S5 12 (pr_N S + 1) (S5.1 19)) σ') (PX := fun kd pl σ' => ¬ lx_isW T n c5 "let" ∧ kd = 1 ∧ pl = nI c5 ∧ lx_nz σ' = ml_sa S5 12 (pr_N S + 1) (S5.1 19)) (d' := 6) (b' := 1) (by rw [e18, nI_1]; exact vp_in_nI (by omega) (by decide)) (by rw [e18, cc1, hs.s1 19 (by omega)]; exact ps_mustBe (tx := "let") (ps_sa hs (by omega)) hT5 hw (by decide) (Nat.le_refl 6)) (by show _ ≤ D; omega) (Nat.le_refl 1) (ml_kr0 fun σ ⟨hq, hs⟩ => ?_) (fun kd pl σ' ⟨g1, g2, g3, g4⟩ => by
    rw [if_neg g1] at h
    exact pq_X.er h (px5.tr (px12 _)) g2 g3 g4)
  rw [if_pos hq] at h
  obtain ⟨q1, q2, q3, q4, hM⟩ := nd_B hI hT h1 h2 h3 hq
  obtain ⟨hE3, hJ3, hB3, ek3, eN3, -⟩ := id hM
  have hT3 : (nd_3 S5).2 0 = T := (q3.2 0 (Or.inl rfl)).trans hT
  have ek5 : pr_k S5 = pr_k S := ek3
  rw [ek5] at h
  obtain ⟨r6, h6, hx6, h⟩ := pr_b_some h
  have e18 : σ.1 18 = nI (pr_N S) := by rw [hs.s1 18 (by omega)]; exact w1.trans (by rw [eN])
  have e30 : σ.1 30 = S5.1 30 := by rw [hs.s1 30 (by omega)]; rfl
  refine mbnode_264 (by rw [e18]; exact vp_in_nI (by omega) (by decide)) (by rw [e18]; exact vp_in_nI (by omega) (by decide)) ?_
  rw [e18, c0, e30]
  have hs3 : ps n (lx_next T n c5) (nd_3 S5) (ml_sa (ml_sa (ml_sa σ 15 (pr_N S) (S5.1 30)) 16 (pr_N S) 0) 17 (pr_N S) 0) := by
    unfold nd_3
    rw [eN]
    exact ps_sa (ps_sa (ps_sa hs (by omega)) (by omega)) (by omega)
  refine node_eqs hw (by omega) hx6 (fun c6 S6 σ E he6 hs hS => ?_) f (lx_next T n c5) (nd_3 S5) _ _ h6 hs3 hT3 hE3 hB3 q3
  subst he6
  have h := h _ _ _ rfl
  obtain ⟨hM6, b4, b5, b6, b7, b8⟩ := nd_C hM h6
  have hc6 : c6 < n := lx_kind_lt (T := T) (by rw [b7.1]; decide)
  refine node_end (by omega) hs hS (b5.T.trans hT3) hM6 (Nat.le_of_lt b6) ?_ b8 hc6 hN59 (q3.tr b5.px) h
  rw [b5.2 15 (by omega) (by omega) (by omega) (by omega) (by omega), nd_3_2, if_neg (by omega), if_neg (by omega), if_pos ⟨rfl, eN.symm⟩, ek, i6]
theorem X6_node_W {f c D : Nat} {S σ : MS} {r : PE} (hw : ml_ws z) (hs : ps n c S σ) (hT : S.2 0 = T) (hI : nd_I n c S) (h : nd T n f c S = some r) (hD : 950 ≤ D) : ml_C z mX6_node D 1 [vR (some z.2.1)] σ (fun v σ' _ => pq_N0 n r v σ') (pq_X S r) := by
  have hpx : md_px S S := md_px.rf
  obtain ⟨hJ, hab, i1, i2, i3, i4, i5, i6, i7, i8, i9, i10⟩ := id hI
  obtain ⟨v1, v2, v3, v4, v5, v6, v7, v8, v9⟩ := hJ.1.N
  refine ml_C_of (by decide) rfl (Nat.le_of_ble_eq_true rfl) ?_
  have c0 : (nI (pr_N S)).toNatClampNeg = pr_N S := nI_clamp (by omega)
  unfold nd at h
  have at32 : ∀ σ E, ps n c S σ → ¬ (lx_isW T n c "node" ∧ pr_N S = 59) → ml_V z mX6_node (D, 1, (fun v σ' _ => pq_N0 n r v σ'), pq_X S r) 32 [(0, vR (some z.2.1))] [] σ E 1 := by
    intro σ E hs hne
    refine mbnode_32 (ps_mustBe (tx := "node") hs hT hw (by decide) (Nat.le_refl 6)) (by show _ ≤ D; omega) (Nat.le_refl 1) (ml_kr0 fun σ ⟨hq, hs⟩ => ?_) (fun kd pl σ' ⟨g1, g2, g3, g4⟩ => by rw [if_neg g1] at h; exact pq_X.er h hpx g2 g3 g4)
    have hN : pr_N S ≠ 59 := fun u => hne ⟨hq, u⟩
    rw [if_pos hq, if_neg hN] at h
    obtain ⟨t1, t2⟩ := lx_tkw hq
    generalize lx_next T n c = c1 at *
    refine mbnode_39 (ps_name hs hT hw (Nat.le_refl 6)) (by show _ ≤ D; omega) (Nat.zero_le _) (ml_krv fun σ ⟨hs, hS⟩ => ?_) ml_no
    refine mbnode_43 (fun q => ?_) (fun q => ?_)
    · have hnm := Decidable.byContradiction fun u => q (nd_name0.2 u)
      rw [if_pos hnm] at h
      obtain ⟨t3, t4⟩ := lx_tkn hnm
      refine mbnode_51 (ps_node hs hS hJ.1 (Nat.le_refl 1)) (by show _ ≤ D; omega) (Nat.zero_le _) (ml_krv fun σ ⟨hs, hS⟩ => ?_) ml_no
      have hfn : pr_fn n S c1 < 2 ^ 31 := by
        have := (lx_find_spec (P := lx_ns S n c1) (b := pr_N S) (pr_N S) 0 (by omega) (Nat.zero_le _)).2.1
        unfold pr_fn
        omega
      refine mbnode_55 (fun q => ?_) (fun q => ?_)
      · have qv := (lx_m1 hfn).1 q
        rw [if_neg qv] at h
        obtain ⟨r5, h5, hx5, h⟩ := pr_b_some h
        obtain ⟨hI0, ha0, px0⟩ := nd_A (T := T) hI (Nat.le_of_succ_le t1) t2
        have hT0 := (px0.2 0 (Or.inl rfl)).trans hT
        have e18 : σ.1 18 = nI (pr_N S) := by rw [hs.s1 18 (by omega)]; exact v1
        have pxa : ∀ x y, md_px S (ml_sa (ml_sa S 10 (pr_N S) x) 11 (pr_N S) y) := fun x y => ⟨⟨fun _ _ => rfl, by rw [ml_sa_a, if_neg (by omega), ml_sa_a, if_neg (by omega)]⟩, fun k hk => funext fun j => by rw [ml_sa_a, if_neg (by omega), ml_sa_a, if_neg (by omega)]⟩
        have er5 : ∀ {k : Int32} {c : Nat}, pr_er k c = some r5 → pr_er k c = some r := fun {k c} h => by rw [pr_er, hx5 (k, c) (Option.some.inj h).symm]
        have at242 : ∀ c5 S5 σ E, r5 = .inr (0, c5, S5) → ps n c5 S5 σ → ml_V z mX6_node (D, 1, (fun v σ' _ => pq_N0 n r v σ'), pq_X S r) 242 [(0, vR (some z.2.1))] [] σ E 1 := fun c5 S5 σ E he hs => node_body hw hI hT (Nat.le_of_succ_le t1) t2 hN h5 he hs (h _ _ _ he) hD
        have hle := lx_end_le (T := T) (n := n) (c := c1) t2
        refine mbnode_71 (P := fun v σ' _ => v = none ∧ ps n (lx_next T n c1) (ml_sa (ml_sa S 10 (pr_N S) (nI c1)) 11 (pr_N S) (nI (lx_end T n c1 - c1))) σ') (PX := fun _ _ _ => False) (d' := 3) (b' := 0) (by rw [e18]; exact vp_in_nI (by omega) (by decide)) (by
          rw [e18, c0, hS.2.2.2.1, hS.2.2.2.2.1, hs.s2, hT, pk_sub hle.1]
          exact ps_take (ps_sa (ps_sa hs (by omega)) (by omega)) ((pxa _ _).2 0 (Or.inl rfl) |>.trans hT) (Nat.le_refl 3)) (by show _ ≤ D; omega) (Nat.zero_le _) (ml_kr0 fun σ hs => ?_) ml_no
        have e18 : σ.1 18 = nI (pr_N S) := by rw [hs.s1 18 (by omega)]; exact v1
        have h50 := h5
        unfold nd_hd at h5
        obtain ⟨r1, h1, hx1, h5⟩ := pr_b_some h5
        refine mbnode_106 (P := fun v σ' _ => pq_N0 n r1 v σ') (PX := pq_X (nd_0 S c1 (lx_end T n c1)) r1) (d' := 9) (b' := 1) (by rw [e18]; exact vp_in_nI (by omega) (by decide)) (by
          rw [e18, c0, hs.s1 19 (by omega)]
          exact X6_groups_W (S := nd_0 S c1 (lx_end T n c1)) hw (ps_sa hs (by omega)) hT0 hI0 h1 (Nat.le_refl 9)) (by show _ ≤ D; omega) (Nat.le_refl 1) (pq_kr0 fun c2 σ he1 hs => ?_) (pq_kx (fun k e => hx5 k (hx1 k e)) px0)
        have h5 := h5 _ _ _ he1
        rw [he1] at h1
        obtain ⟨-, a2, a3, a4, a5⟩ := pg_groups_ok h1 hI0 hT0
        have hT2 := a4.T.trans hT0
        have px2 := px0.tr a4.px
        have eN2 : pr_N (lx_nz σ) = pr_N S := a4.N
        revert hs h5 a2 hT2 px2 eN2
        generalize lx_nz σ = S2
        intro hs h5 a2 hT2 px2 eN2
        have px1 : md_px S2 (nd_1 S2) := (nd_1_hs (b := 0)).px
        have e18 : σ.1 18 = nI (pr_N S) := by rw [hs.s1 18 (by omega), a2.1.N.1, eN2]
        refine mbnode_123 (P := fun v σ' _ => v = none ∧ lx_isW T n c2 "returns" ∧ ps n (lx_next T n c2) (nd_1 S2) σ') (PX := fun kd pl σ' => ¬ lx_isW T n c2 "returns" ∧ kd = 1 ∧ pl = nI c2 ∧ lx_nz σ' = nd_1 S2) (d' := 6) (b' := 1) (by rw [e18]; exact vp_in_nI (by omega) (by decide)) (by rw [e18]; exact vp_in_nI (by omega) (by decide)) (by
          rw [hs.s1 18 (by omega), hs.s1 19 (by omega), hs.s2]
          exact ps_mustBe (S := nd_1 S2) (tx := "returns") (ps_sa hs (by omega)) hT2 hw (by decide) (Nat.le_refl 6)) (by show _ ≤ D; omega) (Nat.le_refl 1) (ml_kr0 fun σ ⟨hq, hs⟩ => ?_) (fun kd pl σ' ⟨g1, g2, g3, g4⟩ => by
          rw [if_neg g1] at h5
          exact pq_X.er (er5 h5) (px2.tr px1) g2 g3 g4)
        rw [if_pos hq] at h5
        obtain ⟨t5, t6⟩ := lx_tkw hq
        obtain ⟨r3, h3, hx3, h5⟩ := pr_b_some h5
        have hI3 : pg_I n (lx_next T n c2) (nd_1 S2) := nd_1_I ⟨a2.1, by have := a2.2.1; omega, t6, a2.2.2.2⟩
        refine mbnode_153 (X6_groups_W (S := nd_1 S2) hw hs hT2 hI3 h3 (Nat.le_refl 9)) (by show _ ≤ D; omega) (Nat.le_refl 1) (pq_kr0 fun c3 σ he3 hs => ?_) (pq_kx (fun k e => hx5 k (hx3 k e)) (px2.tr px1))
        have h5 := h5 _ _ _ he3
        rw [he3] at h3
        obtain ⟨-, b2, b3, b4, b5⟩ := pg_groups_ok h3 hI3 hT2
        have hT3 := b4.T.trans hT2
        have px3 := (px2.tr px1).tr b4.px
        have eN3 : pr_N (lx_nz σ) = pr_N S := b4.N.trans eN2
        revert hs h5 b2 hT3 px3 eN3
        generalize lx_nz σ = S3
        intro hs h5 b2 hT3 px3 eN3
        have px4 : md_px S (nd_2 S3) := px3.tr (nd_2_hs (b := 0)).px
        have e18 : σ.1 18 = nI (pr_N S) := by rw [hs.s1 18 (by omega), b2.1.N.1, eN3]
        refine mbnode_157 (P := fun v σ' _ => v = none ∧ lx_kind T n c3 = 59 ∧ ps n (lx_next T n c3) (nd_2 S3) σ') (PX := fun kd pl σ' => lx_kind T n c3 ≠ 59 ∧ kd = 1 ∧ pl = nI c3 ∧ lx_nz σ' = nd_2 S3) (d' := 6) (b' := 1) (by rw [e18]; exact vp_in_nI (by omega) (by decide)) (by rw [e18]; exact vp_in_nI (by omega) (by decide)) (by
          rw [hs.s1 18 (by omega), hs.s1 19 (by omega), hs.s2]
          exact ps_must (S := nd_2 S3) (ps_sa hs (by omega)) hT3 (Nat.le_refl 6)) (by show _ ≤ D; omega) (Nat.le_refl 1) (ml_kr0 fun σ ⟨hq, hs⟩ => ?_) (fun kd pl σ' ⟨g1, g2, g3, g4⟩ => by
          rw [if_neg g1] at h5
          exact pq_X.er (er5 h5) px4 g2 g3 g4)
        rw [if_pos hq] at h5
        obtain ⟨t7, t8⟩ := lx_tk (T := T) (n := n) (c := c3) (by rw [hq]; decide)
        unfold nd_vr at h5
        have hT4 : (nd_2 S3).2 0 = T := hT3
        have hI4 : pg_I n (lx_next T n c3) (nd_2 S3) := nd_2_I ⟨b2.1, by have := b2.2.1; omega, t8, b2.2.2.2⟩
        refine mbnode_196 (ps_is (tx := "var") hs hT4 hw (by decide) (Nat.le_refl 4)) (by show _ ≤ D; omega) (Nat.zero_le _) (ml_krv fun σ ⟨hs, hS⟩ => ?_) ml_no
        refine mbnode_203 (fun q => ?_) (fun q => ?_)
        · rw [if_neg (nd_name0.1 q)] at h5
          exact at242 _ _ _ _ (Option.some.inj h5).symm hs
        · have hv := Decidable.byContradiction fun u => q (nd_name0.2 u)
          rw [if_pos hv] at h5
          obtain ⟨t9, t10⟩ := lx_tkw hv
          obtain ⟨r4, h4, hx4, h5⟩ := pr_b_some h5
          have hI5 : pg_I n (lx_next T n (lx_next T n c3)) (nd_2 S3) := ⟨hI4.1, by have := hI4.2.1; omega, t10, hI4.2.2.2⟩
          refine mbnode_206 (ps_take hs hT4 (Nat.le_refl 3)) (by show _ ≤ D; omega) (Nat.zero_le _) (ml_kr0 fun σ hs => ?_) ml_no
          refine mbnode_210 (X6_group_W (vars := true) hw hs hT4 hI5 rfl h4 (Nat.le_refl 8)) (by show _ ≤ D; omega) (Nat.le_refl 1) (pq_kr0 fun c4 σ he4 hs => ?_) (pq_kx (fun k e => hx5 k (hx4 k e)) px4)
          have h5 := h5 _ _ _ he4
          rw [he4] at h4
          obtain ⟨-, d2, d3, d4, d5⟩ := pg_group_ok h4 hI5 hT4
          have hT5 := d4.T.trans hT4
          have px5 := px4.tr d4.px
          refine mbnode_215 (ps_must hs hT5 (Nat.le_refl 6)) (by show _ ≤ D; omega) (Nat.le_refl 1) (ml_kr0 fun σ ⟨hq, hs⟩ => ?_) (fun kd pl σ' ⟨g1, g2, g3, g4⟩ => by
            rw [if_neg g1] at h5
            exact pq_X.er (er5 h5) px5 g2 g3 g4)
          rw [if_pos hq] at h5
          obtain ⟨t11, t12⟩ := lx_tk (T := T) (n := n) (c := c4) (by rw [hq]; decide)
          exact node_vars (R := r) (S0 := S) hw (by omega) hx5 at242 f _ _ _ _ h5 hs hT5 ⟨d2.1, by have := d2.2.1; omega, t12, d2.2.2.2⟩ px5
      · have qv : pr_fn n S c1 < pr_N S := Decidable.byContradiction fun u => q ((lx_m1 hfn).2 u)
        rw [if_pos qv] at h
        refine mbnode_58 (Nat.le_refl 1) (fun q => ?_)
        refine mbnode_61 rfl (X23_init_C (Nat.le_refl 4)) (fun G g => g) (by show _ ≤ D; omega) (Nat.zero_le _) ?_
        exact mbnode_70 rfl (fun G g => g.1) (fun G g => pq_X.er h hpx g.2.1 (g.2.2.trans hS.2.2.2.1) hs.2)
    · have hnm := nd_name0.1 q
      rw [if_neg hnm] at h
      refine mbnode_46 (X6_cant_C hs.1 (Nat.le_refl 5)) (by show _ ≤ D; omega) (Nat.le_refl 1) (fun v σ'' G g1 g2 g3 => ?_) ml_no
      obtain ⟨⟨g4, g5⟩, q1, rfl, g6, g7, g8⟩ := g3
      refine (mbnode_50 (E := fun G => hp_kd G q1 = 4 ∧ hp_i G q1 6 = 1 ∧ hp_i G q1 7 = nI c1) rfl (fun G g => g.1) (fun G g => ?_)) G g1 g2 ⟨g6, g7, g8⟩
      exact pq_X.er h hpx g.2.1 g.2.2 (g4.trans hs.2)
  refine mbnode_0 (ps_is (tx := "node") hs hT hw (by decide) (Nat.le_refl 4)) (by show _ ≤ D; omega) (Nat.zero_le _) (ml_krv fun σ ⟨hs, hS⟩ => ?_) ml_no
  refine mbnode_7 (fun q => at32 _ _ hs (fun u => nd_name0.1 q u.1)) (fun q => ?_)
  have e18 : σ.1 18 = nI (pr_N S) := by rw [hs.s1 18 (by omega)]; exact v1
  have hq := Decidable.byContradiction fun u => q (nd_name0.2 u)
  refine mbnode_10 (fun q2 => at32 _ _ hs (fun u => q2 (by rw [e18, u.2]; rfl))) (fun q2 => ?_)
  rw [e18] at q2
  have hN : pr_N S = 59 := (nI_eq (by omega) (by omega)).1 q2
  rw [if_pos hq, if_pos hN] at h
  refine mbnode_19 (Nat.le_refl 1) (fun q => ?_)
  refine mbnode_22 rfl (X23_init_C (Nat.le_refl 4)) (fun G g => g) (by show _ ≤ D; omega) (Nat.zero_le _) ?_
  exact mbnode_31 rfl (fun G g => g.1) (fun G g => pq_X.er h hpx g.2.1 (g.2.2.trans hS.2.2.2.1) hs.2)
end
