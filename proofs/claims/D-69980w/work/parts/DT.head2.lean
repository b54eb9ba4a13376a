/-! THE COMPONENT's PARSER: a node's inputs and outputs -/
set_option maxRecDepth 100000
theorem nI_sub {a b : Nat} (h : b ≤ a) : nI a - nI b = nI (a - b) := by
  have e : nI a = nI (a - b) + nI b := by rw [nI_add, Nat.sub_add_cancel h]
  rw [e, Int32.add_sub_cancel]
theorem nd_1_E {S : MS} : pE_same S (nd_1 S) := ⟨rfl, rfl, by unfold pr_a; show ((ml_sa S 13 (pr_N S) _).2 12 (pr_N S)).toNatClampNeg = _; rw [ml_sa_a, if_neg (by decide)], fun k hk => by funext j; show (ml_sa S 13 _ _).2 k j = _; rw [ml_sa_a, if_neg (by omega)]⟩
theorem nd_2_E {S : MS} : pE_same S (nd_2 S) := ⟨rfl, rfl, by unfold pr_a; show ((ml_sa S 14 (pr_N S) _).2 12 (pr_N S)).toNatClampNeg = _; rw [ml_sa_a, if_neg (by decide)], fun k hk => by funext j; show (ml_sa S 14 _ _).2 k j = _; rw [ml_sa_a, if_neg (by omega)]⟩
section
variable {q : PZ} {S S' : MS} {X : Nat → Nat} {G G' G00 : GH} {c c' t L Lv hv cv Le Lc Lm Lr : Nat} {vk : (Nat → Nat) × (Nat → Int32)} {nml : List Nat}
/-- i inputs, o outputs: the kinds of variables, the node's ints -/
def hdF (q : PZ) (vk : (Nat → Nat) × (Nat → Int32)) (S : MS) (G : GH) (i o : Nat) : Prop := (1 ≤ i ∧ 1 ≤ o ∧ pr_a S + i + o ≤ pr_v S) ∧ (S.2 13 (pr_N S) = nI i ∧ S.2 14 (pr_N S) = nI o) ∧ (∀ k, hp_i G (qn q) k = if k = 7 then nI i else if k = 8 then nI o else 0) ∧ (∀ v, pr_a S ≤ v → v < pr_a S + i → vk.2 v = 0) ∧ (∀ v, pr_a S + i ≤ v → v < pr_a S + i + o → vk.2 v = 1) ∧ ∀ v, pr_a S + i + o ≤ v → v < pr_v S → vk.2 v = 2
theorem X3_node_hd {A f D B cs ss hN r2 : Nat} {P : Option WV → GH → Prop} {r rh : PE} {M : Nat} (hM : ∀ m, m ≤ 99 → pr_a S + m ≤ rz_n q.1 → m ≤ M) (hcmp : cmp_o q.1.1) (hD : 31 ≤ D) (hsn : sn G00) (hhN : hp_r G00 q.1.2.1 9 = some hN) (hhN2 : hp_kd G00 hN ≠ 0) (h0 : hdI q vk c S G00 G Lv hv cv Le Lc Lm Lr nml) (hav : pr_a S = pr_v S) (hz : ∀ k, hp_i G (qn q) k = 0) (h : nd_hd (rz_T q.1) (rz_n q.1) f c S = some rh) (hx : ∀ k, rh = .inl k → r = .inl k)
    (K : ∀ c5 S5 vk5 G5 cv5 i o r5, nd_vr (rz_T q.1) (rz_n q.1) f c5 S5 = some rh → hdI q vk5 c5 S5 G00 G5 Lv hv cv5 Le Lc Lm Lr nml → hdF q vk5 S5 G5 i o → pr_v S5 = pr_a S5 + i + o → pr_a S5 = pr_a S → pr_N S5 = pr_N S → c + 1 ≤ c5 → 20 * (rz_n q.1 - c5) + 40 + (wvn M - wvn (pr_v S5 - pr_a S5)) + A ≤ r5 → wk_V q.1.1 mX3_node (D, B, P, xq_X q G00 r, cs, ss) 201 [(0, vR (some q.1.2.1))] [] G5 r5)
    (hr2 : 20 * (rz_n q.1 - c) + 40 + (wvn M - wvn (pr_v S - pr_a S)) + A ≤ r2) : wk_V q.1.1 mX3_node (D, B, P, xq_X q G00 r, cs, ss) 102 [(0, vR (some q.1.2.1))] [] G r2 := by
  refine wk_less hr2 ?_
  unfold nd_hd at h
  obtain ⟨r1, h1, hx1, h⟩ := pr_b_some h
  unfold pg_groups at h1
  -- the inputs
  refine blX3_node_102 h0.1.1.1.1 (X3_need_C (k := 40) (d := 9) h0.1 (by decide) (Nat.le_refl 9)) (by show 9 + 1 ≤ D; omega) (by omega) ?_ (fun E a G' u => wk_out0 rfl ⟨1, c, hx _ (hx1 _ (by rw [if_neg u.1] at h1; exact (Option.some.inj h1).symm)), u.2.of h0.2.2.2.2.1.1 h0.2.2.2.2.1.2 (fun _ _ u => u)⟩)
  rintro v G1 ⟨rfl, hq, t1, t2⟩
  rw [if_pos hq] at h1
  obtain ⟨tk1, tk2⟩ := lx_tk (T := rz_T q.1) (n := rz_n q.1) (c := c) (by rw [hq]; decide)
  obtain ⟨hd1, i1⟩ := h0.scan t1 t2 (by omega)
  generalize lx_next (rz_T q.1) (rz_n q.1) c = c1 at h1 hd1 tk1 tk2
  obtain ⟨hp1, pn1⟩ := hd1.pst (X := fun _ => 0)
  refine wk_have fun hA hB => ?_
  refine blX3_node_109 hd1.1.1.1.1 (X3_groups_C (D := 30) (q := qVK q vk) (kd := 0) (M := M) hM hcmp (Nat.le_refl 30) hp1 rfl hd1.2.2.2.1.1 hd1.2.2.2.1.2.1 pn1 hsn hd1.2.2.1 hhN hhN2 (Or.inl rfl) h1) (by show 30 + 1 ≤ D; omega) (by show 20 * (rz_n q.1 - c1) + 40 + (wvn M - wvn (pr_v S - pr_a S)) ≤ _; omega) ?_ (fun E a G' u => wk_out0 rfl ?_)
  · rintro v G2 ⟨rfl, c2, S2, q2, cv2, hr1, ⟨g1, g2, g3, g4, g5⟩, hO⟩
    have g1 : c1 + 1 ≤ c2 := g1
    have hr1 : (if lx_kind (rz_T q.1) (rz_n q.1) c2 = 41 then pr_ok 0 (lx_next (rz_T q.1) (rz_n q.1) c2) S2 else pr_er 1 c2) = some r1 := hr1
    obtain ⟨vk2, rfl, hd2, hk2, ho2, i2, hcb2⟩ := hd1.gO hO g4 g5 (by rw [g2.T]; exact hd1.2.2.2.1.2.2)
    have ha2 : pr_a S2 = pr_a S := g2.a
    have w99 : wvn (pr_v S2 - pr_a S2) ≤ wvn M := wvn_le (hM _ (by have := g5.1; omega) (by have := g4.2.1; have := hd2.1.2.1; have := g4.1.N.2.2.2.2.2.1; omega))
    have w12 : wvn (pr_v S - pr_a S) ≤ wvn (pr_v S2 - pr_a S2) := wvn_le (by omega)
    have hc2 : c2 ≤ rz_n q.1 := hd2.1.2.1
    refine wk_bk hA hB hcb2 (r' := 20 * (rz_n q.1 - c2) + 40 + (wvn M - wvn (pr_v S2 - pr_a S2)) + A) (by omega) ?_
    clear hA hB
    refine blX3_node_117 hd2.1.1.1.1 hd2.2.1.2.1.2.2 hd2.2.1.2.1.1 hd2.2.2.1.1 hd2.2.2.1.2.2.2.2.1.1 (J5_size_C (d := 0) hd2.2.2.1.2.2.2.2) (by show 0 + 1 ≤ D; omega) (Nat.zero_le _) ?_ (fun _ _ _ u => absurd u id)
    rintro v G2 ⟨rfl, rfl⟩
    have hd3 := hd2.nI (k := 7) (v := nI (pr_v S2 - pr_a S2))
    have i3 : ∀ k, hp_i (hp_sI G2 (qn q) 7 (nI (pr_v S2 - pr_a S2))) (qn q) k = if k = 7 then nI (pr_v S2 - pr_a S2) else 0 := fun k => by
      rw [hp_i_sI, if_pos rfl]
      by_cases u : k = 7
      · rw [if_pos u, if_pos u]
      · rw [if_neg u, if_neg u, i2, i1, hz k]
    refine blX3_node_131 hd2.2.1.2.1.2.2 hd2.2.1.2.1.1 hd2.2.1.2.1.2.1 hd2.1.1.1.1 (X3_need_C (k := 41) (d := 9) hd3.1 (by decide) (Nat.le_refl 9)) (by show 9 + 1 ≤ D; omega) (by show 10 ≤ _ - 0; omega) ?_ (fun E a G' u => wk_out0 rfl ⟨1, c2, hx _ (hx1 _ (by rw [if_neg u.1] at hr1; exact (Option.some.inj hr1).symm)), u.2.of hd3.2.2.2.2.1.1 hd3.2.2.2.2.1.2 (fun _ _ u => u)⟩)
    rintro v G4 ⟨rfl, hq4, t3, t4⟩
    rw [if_pos hq4] at hr1
    have h := h _ _ _ (Option.some.inj hr1).symm
    obtain ⟨tk3, tk4⟩ := lx_tk (T := rz_T q.1) (n := rz_n q.1) (c := c2) (by rw [hq4]; decide)
    obtain ⟨hd4, i4⟩ := hd3.scan t3 t4 (by omega)
    generalize lx_next (rz_T q.1) (rz_n q.1) c2 = c3 at h hd4 tk3 tk4
    have i4' : ∀ k, hp_i G4 (qn q) k = if k = 7 then nI (pr_v S2 - pr_a S2) else 0 := fun k => by rw [i4]; exact i3 k
    clear i4 i3 i2 i1 hd3 hd2
    -- returns
    refine blX3_node_141 hd4.1.1.1.1 (X3_need_2_C (tx := "returns") (d := 9) hd4.1 hd4.2.1.1.1 (by simp [lx_words]) (Nat.le_refl 9)) (by show 9 + 1 ≤ D; omega) (by show 10 ≤ _ - 0 - 10; omega) ?_ (fun E a G' u => wk_out0 rfl ⟨1, c3, hx _ (by rw [if_neg u.1] at h; exact (Option.some.inj h).symm), u.2.of hd4.2.2.2.2.1.1 hd4.2.2.2.2.1.2 (fun _ _ u => u)⟩)
    rintro v G5 ⟨rfl, hq5, t5, t6⟩
    rw [if_pos hq5] at h
    obtain ⟨tk5, tk6⟩ := lx_tkw (T := rz_T q.1) (n := rz_n q.1) (c := c3) hq5
    obtain ⟨hd5', i5⟩ := hd4.scan t5 t6 (by omega)
    have hd5 := hd5'.cgS nd_1_E (nd_1_I hd5'.2.2.2.1.1) (gx_1 hd5'.2.2.2.1.2.1)
    generalize lx_next (rz_T q.1) (rz_n q.1) c3 = c4 at h hd5 hd5' tk5 tk6
    have ev1 : pr_v (nd_1 S2) = pr_v S2 := rfl
    have ea1 : pr_a (nd_1 S2) = pr_a S2 := nd_1_E.a
    have eN1 : pr_N (nd_1 S2) = pr_N S2 := rfl
    obtain ⟨v1, v2, v3, v4, v5, v6, v7, v8, v9⟩ := g4.1.N
    have e13 : (nd_1 S2).2 13 (pr_N S2) = nI (pr_v S2 - pr_a S2) := by
      show (ml_sa S2 13 (pr_N S2) (S2.1 19 - S2.2 12 (pr_N S2))).2 13 (pr_N S2) = _
      rw [ml_sa_a, if_pos rfl, if_pos rfl, v3, v5, nI_sub v6]
    have gv1 : gx (nd_1 S2) := hd5.2.2.2.1.2.1
    obtain ⟨r3, h3, hx3, h⟩ := pr_b_some h
    unfold pg_groups at h3
    refine blX3_node_147 hd5.1.1.1.1 (X3_need_C (k := 40) (d := 9) hd5.1 (by decide) (Nat.le_refl 9)) (by show 9 + 1 ≤ D; omega) (by show 10 ≤ _ - 0 - 10 - 10; omega) ?_ (fun E a G' u => wk_out0 rfl ⟨1, c4, hx _ (hx3 _ (by rw [if_neg u.1] at h3; exact (Option.some.inj h3).symm)), u.2.of hd5.2.2.2.2.1.1 hd5.2.2.2.2.1.2 (fun _ _ u => u)⟩)
    rintro v G6 ⟨rfl, hq6, t7, t8⟩
    rw [if_pos hq6] at h3
    obtain ⟨tk7, tk8⟩ := lx_tk (T := rz_T q.1) (n := rz_n q.1) (c := c4) (by rw [hq6]; decide)
    obtain ⟨hd6, i6⟩ := hd5.scan t7 t8 (by omega)
    generalize lx_next (rz_T q.1) (rz_n q.1) c4 = c5 at h3 hd6 tk7 tk8
    obtain ⟨hp6, pn6⟩ := hd6.pst (X := fun _ => 0)
    refine wk_have fun hA hB => ?_
    have hM6 : ∀ m, m ≤ 99 → pr_a (nd_1 S2) + m ≤ rz_n q.1 → m ≤ M := fun m a b => hM m a (by rw [ea1, ha2] at b; exact b)
    refine blX3_node_154 hd6.1.1.1.1 (X3_groups_C (D := 30) (q := qVK q vk2) (kd := 1) (M := M) hM6 hcmp (Nat.le_refl 30) hp6 rfl hd6.2.2.2.1.1 hd6.2.2.2.1.2.1 pn6 hsn hd6.2.2.1 hhN hhN2 (Or.inr rfl) h3) (by show 30 + 1 ≤ D; omega) (by show 20 * (rz_n q.1 - c5) + 40 + (wvn M - wvn (pr_v (nd_1 S2) - pr_a (nd_1 S2))) ≤ _ - 0 - 10 - 10 - 10; rw [ev1, ea1]; omega) ?_ (fun E a G' u => wk_out0 rfl ?_)
    · rintro v G7 ⟨rfl, c6, S6, q6, cv6, hr6, ⟨k1, k2, k3, k4, k5⟩, hO6⟩
      have k1 : c5 + 1 ≤ c6 := k1
      have hr6 : (if lx_kind (rz_T q.1) (rz_n q.1) c6 = 41 then pr_ok 0 (lx_next (rz_T q.1) (rz_n q.1) c6) S6 else pr_er 1 c6) = some r3 := hr6
      obtain ⟨vk6, rfl, hd7, hk7, ho7, i7, hcb7⟩ := hd6.gO hO6 k4 k5 (by rw [k2.T]; exact hd6.2.2.2.1.2.2)
      have ha6 : pr_a S6 = pr_a S2 := k2.a.trans ea1
      have hN6 : pr_N S6 = pr_N S2 := k2.N.trans eN1
      have k3 : pr_v S2 < pr_v S6 := k3
      rw [ev1, ea1] at hcb7
      have w99' : wvn (pr_v S6 - pr_a S6) ≤ wvn M := wvn_le (hM _ (by have := k5.1; omega) (by have := k4.2.1; have := hd7.1.2.1; have := k4.1.N.2.2.2.2.2.1; omega))
      have w12' : wvn (pr_v S2 - pr_a S2) ≤ wvn (pr_v S6 - pr_a S6) := wvn_le (by omega)
      have hc6 : c6 ≤ rz_n q.1 := hd7.1.2.1
      refine wk_bk hA hB hcb7 (r' := 20 * (rz_n q.1 - c6) + 40 + (wvn M - wvn (pr_v S6 - pr_a S6)) + A) (by show _ ≤ _ - 0 - 10 - 10 - 10; omega) ?_
      clear hA hB
      refine blX3_node_162 hd7.1.1.1.1 hd7.2.1.2.1.2.2 hd7.2.1.2.1.1 hd7.2.2.1.1 hd7.2.2.1.2.2.2.2.1.1 (J5_size_C (d := 0) hd7.2.2.1.2.2.2.2) (by show 0 + 1 ≤ D; omega) (Nat.zero_le _) ?_ (fun _ _ _ u => absurd u id)
      rintro v G7 ⟨rfl, rfl⟩
      have i7' : ∀ k, hp_i G7 (qn q) k = if k = 7 then nI (pr_v S2 - pr_a S2) else 0 := fun k => by rw [i7, i6, i5]; exact i4' k
      have e7 : hp_i G7 (qn q) 7 = nI (pr_v S2 - pr_a S2) := by rw [i7', if_pos rfl]
      have hd8 := hd7.nI (k := 8) (v := nI (pr_v S6 - pr_a S6) - hp_i G7 (qn q) 7)
      have i8 : ∀ k, hp_i (hp_sI G7 (qn q) 8 (nI (pr_v S6 - pr_a S6) - hp_i G7 (qn q) 7)) (qn q) k = if k = 7 then nI (pr_v S2 - pr_a S2) else if k = 8 then nI (pr_v S6 - pr_v S2) else 0 := fun k => by
        rw [hp_i_sI, if_pos rfl, e7, nI_sub (by omega)]
        by_cases u : k = 8
        · rw [if_pos u, if_neg (by omega), if_pos u, show pr_v S6 - pr_a S6 - (pr_v S2 - pr_a S2) = pr_v S6 - pr_v S2 by omega]
        · rw [if_neg u, i7', if_neg u]
      refine blX3_node_176 hd7.1.1.1.1 hd7.2.1.2.1.2.2 hd7.2.1.2.1.1 hd7.2.1.2.1.2.2 hd7.2.1.2.1.1 hd7.2.1.2.1.2.1 (X3_need_C (k := 41) (d := 9) hd8.1 (by decide) (Nat.le_refl 9)) (by show 9 + 1 ≤ D; omega) (by show 10 ≤ _ - 0; omega) ?_ (fun E a G' u => wk_out0 rfl ⟨1, c6, hx _ (hx3 _ (by rw [if_neg u.1] at hr6; exact (Option.some.inj hr6).symm)), u.2.of hd8.2.2.2.2.1.1 hd8.2.2.2.2.1.2 (fun _ _ u => u)⟩)
      rintro v G9 ⟨rfl, hq9, t9, t10⟩
      rw [if_pos hq9] at hr6
      have h := h _ _ _ (Option.some.inj hr6).symm
      obtain ⟨tk9, tk10⟩ := lx_tk (T := rz_T q.1) (n := rz_n q.1) (c := c6) (by rw [hq9]; decide)
      obtain ⟨hd9, i9⟩ := hd8.scan t9 t10 (by omega)
      generalize lx_next (rz_T q.1) (rz_n q.1) c6 = c7 at h hd9 tk9 tk10
      have i9' : ∀ k, hp_i G9 (qn q) k = if k = 7 then nI (pr_v S2 - pr_a S2) else if k = 8 then nI (pr_v S6 - pr_v S2) else 0 := fun k => by rw [i9]; exact i8 k
      refine blX3_node_194 hd9.1.1.1.1 (X3_need_C (k := 59) (d := 9) hd9.1 (by decide) (Nat.le_refl 9)) (by show 9 + 1 ≤ D; omega) (by show 10 ≤ _ - 0 - 10; omega) ?_ (fun E a G' u => wk_out0 rfl ⟨1, c7, hx _ (by rw [if_neg u.1] at h; exact (Option.some.inj h).symm), u.2.of hd9.2.2.2.2.1.1 hd9.2.2.2.2.1.2 (fun _ _ u => u)⟩)
      rintro v G10 ⟨rfl, hq10, t11, t12⟩
      rw [if_pos hq10] at h
      obtain ⟨tk11, tk12⟩ := lx_tk (T := rz_T q.1) (n := rz_n q.1) (c := c7) (by rw [hq10]; decide)
      obtain ⟨hd10', i10⟩ := hd9.scan t11 t12 (by omega)
      have hd10 := hd10'.cgS nd_2_E (nd_2_I hd10'.2.2.2.1.1) (gx_2 hd10'.2.2.2.1.2.1)
      obtain ⟨z1, z2, z3, z4, z5, z6, z7, z8, z9⟩ := k4.1.N
      have ea2 : pr_a (nd_2 S6) = pr_a S6 := nd_2_E.a
      have ev2 : pr_v (nd_2 S6) = pr_v S6 := rfl
      have eN2 : pr_N (nd_2 S6) = pr_N S6 := rfl
      have e13' : S6.2 13 (pr_N S6) = nI (pr_v S2 - pr_a S2) := by rw [k2.2.1 13 (by decide), hN6]; exact e13
      have f13 : (nd_2 S6).2 13 (pr_N S6) = nI (pr_v S2 - pr_a S2) := by
        show (ml_sa S6 14 (pr_N S6) _).2 13 (pr_N S6) = _
        rw [ml_sa_a, if_neg (by decide)]
        exact e13'
      have f14 : (nd_2 S6).2 14 (pr_N S6) = nI (pr_v S6 - pr_v S2) := by
        show (ml_sa S6 14 (pr_N S6) (S6.1 19 - S6.2 12 (pr_N S6) - S6.2 13 (pr_N S6))).2 14 (pr_N S6) = _
        rw [ml_sa_a, if_pos rfl, if_pos rfl, z3, z5, e13', nI_sub z6, nI_sub (by omega), show pr_v S6 - pr_a S6 - (pr_v S2 - pr_a S2) = pr_v S6 - pr_v S2 by omega]
      refine K _ (nd_2 S6) vk6 G10 cv6 (pr_v S2 - pr_a S2) (pr_v S6 - pr_v S2) _ h hd10 ⟨⟨by omega, by omega, by rw [ea2, ev2]; omega⟩, ⟨f13, f14⟩, fun k => by rw [i10]; exact i9' k, fun v u1 u2 => ?_, fun v u1 u2 => ?_, fun v u1 u2 => ?_⟩ (by rw [ea2, ev2]; omega) (by rw [ea2, ha6, ha2]) (by rw [eN2, hN6, g2.N]) (by omega) (by rw [ea2, ev2]; show _ ≤ _ - 0 - 10 - 10; omega)
      · rw [ea2] at u1 u2
        rw [(ho7 v (by rw [ev1]; omega)).1]
        exact hk2 v (by omega) (by omega)
      · rw [ea2] at u1 u2
        exact hk7 v (by rw [ev1]; omega) (by omega)
      · rw [ea2] at u1
        rw [ev2] at u2
        omega
    · obtain ⟨k, c', e, h2⟩ := u
      exact ⟨k, c', hx _ (hx3 _ e), h2⟩
  · obtain ⟨k, c', e, h2⟩ := u
    exact ⟨k, c', hx _ (hx1 _ e), h2⟩
end
