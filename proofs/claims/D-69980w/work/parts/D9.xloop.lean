/-! THE COMPONENT's PARSER: the loops either, both, sum, product; written by tools/gen_xl.py -/
set_option maxRecDepth 100000
section
variable {q : PZ}
theorem X3_either_L {f D d a c c0 p lo lf : Nat} {S0 S : MS} {X0 X : Nat → Nat} {G0 G : GH} {r : PE} (ih : xq_IH q (pp (rz_T q.1) (rz_n q.1) f)) (hd : d ≤ 40) (hD : 20 * (42 - d) + 60 - 2 ≤ D) (hlf : lo ≤ lf) (lp : ∀ a c p S X G, xq_pre q lo c S X G → pin q S0 X0 G0 S X G → c0 ≤ c → pp_pre (rz_n q.1) 3 a [] lf p c S → pp (rz_T q.1) (rz_n q.1) f 3 d a [] c S = some r → wk_V q.1.1 mX3_either (D, 20 * (rz_n q.1 - c0) + 20, xq_N q lo c0 S0 X0 G0 r, xq_X q G0 r, hp_cs G0, hp_ss G0) 6 [(0, vR (some q.1.2.1)), (1, vI (nI d)), (2, vR (some (X a)))] [] G (20 * (rz_n q.1 - c) + 20))
    (hs : xq_pre q lo c S X G) (pn : pin q S0 X0 G0 S X G) (hc0 : c0 ≤ c) (hpre : pp_pre (rz_n q.1) 3 a [] lf p c S) (h : pp_lp (rz_T q.1) (rz_n q.1) (pp (rz_T q.1) (rz_n q.1) f) 4 3 (kk_or (rz_T q.1) (rz_n q.1)) d a c S = some r) : wk_V q.1.1 mX3_either (D, 20 * (rz_n q.1 - c0) + 20, xq_N q lo c0 S0 X0 G0 r, xq_X q G0 r, hp_cs G0, hp_ss G0) 6 [(0, vR (some q.1.2.1)), (1, vI (nI d)), (2, vR (some (X a)))] [] G (20 * (rz_n q.1 - c) + 20) := by
  have hp := hs.1
  have kR := hp.1.1.1.1
  have hR0 := hpre.R (by omega)
  obtain ⟨b1, b2, b3, b4, hV⟩ := hs.nums
  have hpc := hpre.2.1
  have hpa : a + 1 = p := by have h5 := hpre.2.2.2.2; rw [if_pos (by omega)] at h5; exact h5.1
  have hpS : pr_p S = a + 1 := by rw [pr_p, hpre.1, nI_clamp (by omega), hpa]
  have hla := hR0.2.2.2.1
  unfold pp_lp at h
  have out : kk_or (rz_T q.1) (rz_n q.1) c = 0 → ∀ r2, 20 * (rz_n q.1 - c) + 20 ≤ r2 → wk_V q.1.1 mX3_either (D, 20 * (rz_n q.1 - c0) + 20, xq_N q lo c0 S0 X0 G0 r, xq_X q G0 r, hp_cs G0, hp_ss G0) 60 [(2, vR (some (X a)))] [] G r2 := by
    intro hk r2 hr2
    rw [if_pos hk] at h
    exact wk_less hr2 (wk_cb (by omega) fun hcb => blX3_either_60 ⟨a, c, S, X, (Option.some.inj h).symm, rfl, hp, pn, hcb.mono (by omega)⟩)
  have back : ∀ (k : Int32) r1 G2 e1 c1 S1 X1 c2, kk_or (rz_T q.1) (rz_n q.1) c = k → k ≠ 0 → c + 1 ≤ c2 → (∀ (x : Nat) (c1 : Nat) (S1 : MS), r1 = .inr (x, c1, S1) → (pr_b (pr_two S1 k a x c1) fun x c2 S2 => pp (rz_T q.1) (rz_n q.1) f 3 d x [] c2 S2) = some r) → pp (rz_T q.1) (rz_n q.1) f 4 d 0 [] c2 S = some r1 → r1 = .inr (e1, c1, S1) → ∀ G1, xq_pre q lo c2 S X G1 → pin q S X G S X G1 → pst q lo c1 S1 X1 G2 → pin q S X G1 S1 X1 G2 → wk_V q.1.1 mX3_either (D, 20 * (rz_n q.1 - c0) + 20, xq_N q lo c0 S0 X0 G0 r, xq_X q G0 r, hp_cs G0, hp_ss G0) 53 [(0, vR (some q.1.2.1)), (1, vI (nI d))] [vR (some (X1 e1)), vR (some (X a)), vI (xo k), vR (some q.1.2.1)] G2 (20 * (rz_n q.1 - c1) + 20 + 8) := by
    intro k r1 G2 e1 c1 S1 X1 c2 hk h0 hcc hr h1 he1 G1 z1 pn1 hp2 pn2
    obtain ⟨g1, g2⟩ := kk_or_ok (T := (rz_T q.1)) (n := (rz_n q.1)) (c := c) (by rw [hk]; exact h0)
    rw [hk] at g2
    have hk7 : 7 ≤ k ∧ k ≤ 21 := by
      have : kk_or (rz_T q.1) (rz_n q.1) c = k := hk
      unfold kk_or at this
      repeat' split at this
      all_goals first | (rw [← this]; decide) | exact absurd this.symm h0
    have hr := hr _ _ _ he1
    obtain ⟨y1, hR1, f1, f2, f3, f4, f5, f6, f7, f8, f9⟩ := xq_R ih.2.2 h1 he1 (by omega) z1 hp2 (fun u => absurd u (by omega))
    rw [hpS] at hR1 f3 f6
    obtain ⟨r2, h2, hx2, hr⟩ := pr_b_some hr
    refine blX3_either_53 rfl hp2.1.1.1.1 (X3_two_A (D := 8) (kind := k) (X1 := X) (b := e1) z1 hpS (by omega) y1 hR1 f2 (by omega) hk7 h2 (pn2.2.2.1 _ (by omega)) (Nat.le_refl 8)) (by show _ ≤ D; omega) (by omega) ?_ (fun E a G' u => wk_out0 rfl ⟨3, c1, hx2 _ u.1, u.2.of ((pn.tr pn1).tr pn2).2.2.2.2.1 (fun j hj => ((pn.tr pn1).tr pn2).2.2.2.2.2 j (by omega)) (fun _ _ u => u)⟩)
    rintro v G3 ⟨X', S', he2, rfl, m1, m2⟩
    have hr2 := hr _ _ _ he2
    subst he2
    obtain ⟨hR2, -⟩ := pp_two (Inv := fun _ => True) pc_cl_T (by omega) hpc hR0 hcc (by rw [← hpS]; exact (by rw [hpS]; exact hR1)) hV g2 h2 id id
    dsimp only at hR2
    have z2 : xq_pre q lo c1 S' X' G3 := ⟨m1, hR2.pq hpc hV, by have := m2.2.1; omega, fun j hj => y1.2.2.2 j (by have := m2.2.1; omega)⟩
    refine blX3_either_56 (wk_less (by omega) (lp (e1 + 1) c1 (e1 + 1 + 1) S' X' G3 z2 (((pn.tr pn1).tr pn2).tr m2) (by omega) (hR2.pre hpc hV (by omega)) hr2))

  have go : ∀ k : Int32, kk_or (rz_T q.1) (rz_n q.1) c = k → k ≠ 0 → ∀ r2, 20 * (rz_n q.1 - c) + 20 ≤ r2 → wk_V q.1.1 mX3_either (D, 20 * (rz_n q.1 - c0) + 20, xq_N q lo c0 S0 X0 G0 r, xq_X q G0 r, hp_cs G0, hp_ss G0) 40 [(0, vR (some q.1.2.1)), (1, vI (nI d)), (2, vR (some (X a)))] [vI (xo k)] G r2 := by
    intro k hk h0 r2 hr2
    refine wk_less hr2 ?_
    rw [hk, if_neg h0] at h
    obtain ⟨g1, g2⟩ := kk_or_ok (T := (rz_T q.1)) (n := (rz_n q.1)) (c := c) (by rw [hk]; exact h0)
    obtain ⟨t1, s1⟩ := lx_tk g1
    obtain ⟨r1, h1, hx1, h⟩ := pr_b_some h
    refine blX3_either_40 kR (X3_scan_A (d := 7) hp.1 (Nat.le_refl 7)) (by show _ ≤ D; omega) (by omega) ?_ (fun _ _ _ u => absurd u id)
    rintro v G1 ⟨rfl, t3, t4⟩
    obtain ⟨hp1, pn1⟩ := hp.scan t3 t4
    refine wk_have fun hA hB => ?_
    refine blX3_either_45 hp1.1.1.1.1 (ih.1 4 d _ lo S X G1 r1 (20 * (42 - d) + 60 - 4) (by decide) (hs.tok hp1 (by omega)) (Or.inl hd) h1 (Nat.le_refl _)) (by show _ ≤ D; omega) (by omega) ?_ (fun E a G' u => wk_out0 rfl (u.up (pn.tr pn1) hx1))
    rintro v G2 ⟨e1, c1, S1, X1, he1, rfl, hp2, pn2, hb2⟩
    have hc1 := hp2.1.2.1
    have hge : lx_next (rz_T q.1) (rz_n q.1) c ≤ c1 := by
      obtain ⟨-, -, -, -, -, u, -⟩ := xq_R ih.2.2 h1 he1 (by omega) (hs.tok hp1 (by omega)) hp2 (fun u => absurd u (by omega))
      exact u
    refine wk_bk hA hB hb2 (r' := 20 * (rz_n q.1 - c1) + 20 + 8) (by omega) ?_
    exact back k r1 G2 e1 c1 S1 X1 _ hk h0 (by omega) h h1 he1 G1 (hs.tok hp1 (by omega)) pn1 hp2 pn2
  have kd : kk_or (rz_T q.1) (rz_n q.1) c ≠ 0 → ∀ r2, 20 * (rz_n q.1 - c) + 20 ≤ r2 → wk_V q.1.1 mX3_either (D, 20 * (rz_n q.1 - c0) + 20, xq_N q lo c0 S0 X0 G0 r, xq_X q G0 r, hp_cs G0, hp_ss G0) 24 [(0, vR (some q.1.2.1)), (1, vI (nI d)), (2, vR (some (X a)))] [] G r2 := by
    intro hk r2 hr2
    refine blX3_either_24 kR (X3_is_C (tx := "or") (d := 2) hp.1 hp.2.1.1.1 (by simp [lx_words]) (Nat.le_refl 2)) (by show _ ≤ D; omega) (Nat.zero_le _) ?_ (fun _ _ _ u => absurd u id)
    rintro v G1 ⟨rfl, rfl⟩
    refine blX3_either_30 (fun u => blX3_either_38 (go 9 ?_ (by decide) _ (by omega))) (fun u => blX3_either_33 (go 8 ?_ (by decide) _ (by omega)))
    · unfold kk_or at hk ⊢; rw [if_neg (lx_b0.1 u)] at hk ⊢; split; rfl; rename_i u; rw [if_neg u] at hk; exact absurd rfl hk
    · rw [kk_or, if_pos (lx_b1 u)]
  refine blX3_either_6 kR (X3_is_C (tx := "or") (d := 2) hp.1 hp.2.1.1.1 (by simp [lx_words]) (Nat.le_refl 2)) (by show _ ≤ D; omega) (Nat.zero_le _) ?_ (fun _ _ _ u => absurd u id)
  rintro v G1 ⟨rfl, rfl⟩
  refine blX3_either_12 (fun u => kd (by rw [kk_or, if_pos (lx_b1 u)]; decide) _ (by omega)) (fun u => ?_)
  have u1 := lx_b0.1 u
  refine blX3_either_15 kR (X3_is_C (tx := "xor") (d := 2) hp.1 hp.2.1.1.1 (by simp [lx_words]) (Nat.le_refl 2)) (by show _ ≤ D; omega) (Nat.zero_le _) ?_ (fun _ _ _ u => absurd u id)
  rintro v G1 ⟨rfl, rfl⟩
  exact blX3_either_21 (fun u => out (by rw [kk_or, if_neg u1, if_neg (lx_b0.1 u)]) _ (by omega)) (fun u => kd (by rw [kk_or, if_neg u1, if_pos (lx_b1 u)]; decide) _ (by omega))
theorem X3_both_L {f D d a c c0 p lo lf : Nat} {S0 S : MS} {X0 X : Nat → Nat} {G0 G : GH} {r : PE} (ih : xq_IH q (pp (rz_T q.1) (rz_n q.1) f)) (hd : d ≤ 40) (hD : 20 * (42 - d) + 60 - 4 ≤ D) (hlf : lo ≤ lf) (lp : ∀ a c p S X G, xq_pre q lo c S X G → pin q S0 X0 G0 S X G → c0 ≤ c → pp_pre (rz_n q.1) 5 a [] lf p c S → pp (rz_T q.1) (rz_n q.1) f 5 d a [] c S = some r → wk_V q.1.1 mX3_both (D, 20 * (rz_n q.1 - c0) + 20, xq_N q lo c0 S0 X0 G0 r, xq_X q G0 r, hp_cs G0, hp_ss G0) 6 [(0, vR (some q.1.2.1)), (1, vI (nI d)), (2, vR (some (X a)))] [] G (20 * (rz_n q.1 - c) + 20))
    (hs : xq_pre q lo c S X G) (pn : pin q S0 X0 G0 S X G) (hc0 : c0 ≤ c) (hpre : pp_pre (rz_n q.1) 5 a [] lf p c S) (h : pp_lp (rz_T q.1) (rz_n q.1) (pp (rz_T q.1) (rz_n q.1) f) 6 5 (kk_and (rz_T q.1) (rz_n q.1)) d a c S = some r) : wk_V q.1.1 mX3_both (D, 20 * (rz_n q.1 - c0) + 20, xq_N q lo c0 S0 X0 G0 r, xq_X q G0 r, hp_cs G0, hp_ss G0) 6 [(0, vR (some q.1.2.1)), (1, vI (nI d)), (2, vR (some (X a)))] [] G (20 * (rz_n q.1 - c) + 20) := by
  have hp := hs.1
  have kR := hp.1.1.1.1
  have hR0 := hpre.R (by omega)
  obtain ⟨b1, b2, b3, b4, hV⟩ := hs.nums
  have hpc := hpre.2.1
  have hpa : a + 1 = p := by have h5 := hpre.2.2.2.2; rw [if_pos (by omega)] at h5; exact h5.1
  have hpS : pr_p S = a + 1 := by rw [pr_p, hpre.1, nI_clamp (by omega), hpa]
  have hla := hR0.2.2.2.1
  unfold pp_lp at h
  have out : kk_and (rz_T q.1) (rz_n q.1) c = 0 → ∀ r2, 20 * (rz_n q.1 - c) + 20 ≤ r2 → wk_V q.1.1 mX3_both (D, 20 * (rz_n q.1 - c0) + 20, xq_N q lo c0 S0 X0 G0 r, xq_X q G0 r, hp_cs G0, hp_ss G0) 31 [(2, vR (some (X a)))] [] G r2 := by
    intro hk r2 hr2
    rw [if_pos hk] at h
    exact wk_less hr2 (wk_cb (by omega) fun hcb => blX3_both_31 ⟨a, c, S, X, (Option.some.inj h).symm, rfl, hp, pn, hcb.mono (by omega)⟩)
  have back : ∀ (k : Int32) r1 G2 e1 c1 S1 X1 c2, kk_and (rz_T q.1) (rz_n q.1) c = k → k ≠ 0 → c + 1 ≤ c2 → (∀ (x : Nat) (c1 : Nat) (S1 : MS), r1 = .inr (x, c1, S1) → (pr_b (pr_two S1 k a x c1) fun x c2 S2 => pp (rz_T q.1) (rz_n q.1) f 5 d x [] c2 S2) = some r) → pp (rz_T q.1) (rz_n q.1) f 6 d 0 [] c2 S = some r1 → r1 = .inr (e1, c1, S1) → ∀ G1, xq_pre q lo c2 S X G1 → pin q S X G S X G1 → pst q lo c1 S1 X1 G2 → pin q S X G1 S1 X1 G2 → wk_V q.1.1 mX3_both (D, 20 * (rz_n q.1 - c0) + 20, xq_N q lo c0 S0 X0 G0 r, xq_X q G0 r, hp_cs G0, hp_ss G0) 24 [(0, vR (some q.1.2.1)), (1, vI (nI d))] [vR (some (X1 e1)), vR (some (X a)), vI (xo k), vR (some q.1.2.1)] G2 (20 * (rz_n q.1 - c1) + 20 + 8) := by
    intro k r1 G2 e1 c1 S1 X1 c2 hk h0 hcc hr h1 he1 G1 z1 pn1 hp2 pn2
    obtain ⟨g1, g2⟩ := kk_and_ok (T := (rz_T q.1)) (n := (rz_n q.1)) (c := c) (by rw [hk]; exact h0)
    rw [hk] at g2
    have hk7 : 7 ≤ k ∧ k ≤ 21 := by
      have : kk_and (rz_T q.1) (rz_n q.1) c = k := hk
      unfold kk_and at this
      repeat' split at this
      all_goals first | (rw [← this]; decide) | exact absurd this.symm h0
    have hr := hr _ _ _ he1
    obtain ⟨y1, hR1, f1, f2, f3, f4, f5, f6, f7, f8, f9⟩ := xq_R ih.2.2 h1 he1 (by omega) z1 hp2 (fun u => absurd u (by omega))
    rw [hpS] at hR1 f3 f6
    obtain ⟨r2, h2, hx2, hr⟩ := pr_b_some hr
    refine blX3_both_24 rfl hp2.1.1.1.1 (X3_two_A (D := 8) (kind := k) (X1 := X) (b := e1) z1 hpS (by omega) y1 hR1 f2 (by omega) hk7 h2 (pn2.2.2.1 _ (by omega)) (Nat.le_refl 8)) (by show _ ≤ D; omega) (by omega) ?_ (fun E a G' u => wk_out0 rfl ⟨3, c1, hx2 _ u.1, u.2.of ((pn.tr pn1).tr pn2).2.2.2.2.1 (fun j hj => ((pn.tr pn1).tr pn2).2.2.2.2.2 j (by omega)) (fun _ _ u => u)⟩)
    rintro v G3 ⟨X', S', he2, rfl, m1, m2⟩
    have hr2 := hr _ _ _ he2
    subst he2
    obtain ⟨hR2, -⟩ := pp_two (Inv := fun _ => True) pc_cl_T (by omega) hpc hR0 hcc (by rw [← hpS]; exact (by rw [hpS]; exact hR1)) hV g2 h2 id id
    dsimp only at hR2
    have z2 : xq_pre q lo c1 S' X' G3 := ⟨m1, hR2.pq hpc hV, by have := m2.2.1; omega, fun j hj => y1.2.2.2 j (by have := m2.2.1; omega)⟩
    refine blX3_both_27 (wk_less (by omega) (lp (e1 + 1) c1 (e1 + 1 + 1) S' X' G3 z2 (((pn.tr pn1).tr pn2).tr m2) (by omega) (hR2.pre hpc hV (by omega)) hr2))

  refine wk_have fun hA hB => ?_
  refine blX3_both_6 kR (X3_skip_2_C (tx := "and") (d := 8) hp.1 hp.2.1.1.1 (by simp [lx_words]) (Nat.le_refl 8)) (by show _ ≤ D; omega) (by omega) ?_ (fun _ _ _ u => absurd u id)
  rintro v G1 (⟨hk, rfl, t3, t4⟩ | ⟨hk, rfl, rfl⟩)
  · have hkk : kk_and (rz_T q.1) (rz_n q.1) c = 10 := by rw [kk_and, if_pos hk]
    rw [hkk, if_neg (by decide)] at h
    obtain ⟨tk1, tk2⟩ := lx_tkw (T := (rz_T q.1)) (n := (rz_n q.1)) (c := c) hk
    obtain ⟨hp1, pn1⟩ := hp.scan t3 t4
    obtain ⟨r1, h1, hx1, h⟩ := pr_b_some h
    refine blX3_both_12 (fun u => absurd u (by decide)) (fun _ => ?_)
    refine wk_have fun hA hB => ?_
    refine blX3_both_15 hp1.1.1.1.1 (ih.1 6 d _ lo S X G1 r1 (20 * (42 - d) + 60 - 6) (by decide) (hs.tok hp1 (by omega)) (Or.inl hd) h1 (Nat.le_refl _)) (by show _ ≤ D; omega) (by omega) ?_ (fun E a G' u => wk_out0 rfl (u.up (pn.tr pn1) hx1))
    rintro v G2 ⟨e1, c1, S1, X1, he1, rfl, hp2, pn2, hb2⟩
    have hc1 := hp2.1.2.1
    have hge : lx_next (rz_T q.1) (rz_n q.1) c ≤ c1 := by
      obtain ⟨-, -, -, -, -, u, -⟩ := xq_R ih.2.2 h1 he1 (by omega) (hs.tok hp1 (by omega)) hp2 (fun u => absurd u (by omega))
      exact u
    refine wk_bk hA hB hb2 (r' := 20 * (rz_n q.1 - c1) + 20 + 8) (by omega) ?_
    exact back 10 r1 G2 e1 c1 S1 X1 _ hkk (by decide) (by omega) h h1 he1 G1 (hs.tok hp1 (by omega)) pn1 hp2 pn2
  · refine blX3_both_12 (fun _ => ?_) (fun u => absurd rfl u)
    exact wk_bk hA hB cb.rf (u := 0) (r' := 20 * (rz_n q.1 - c) + 20) (by omega) (out (by rw [kk_and, if_neg hk]) _ (by omega))
theorem X3_sum_L {f D d a c c0 p lo lf : Nat} {S0 S : MS} {X0 X : Nat → Nat} {G0 G : GH} {r : PE} (ih : xq_IH q (pp (rz_T q.1) (rz_n q.1) f)) (hd : d ≤ 40) (hD : 20 * (42 - d) + 60 - 7 ≤ D) (hlf : lo ≤ lf) (lp : ∀ a c p S X G, xq_pre q lo c S X G → pin q S0 X0 G0 S X G → c0 ≤ c → pp_pre (rz_n q.1) 8 a [] lf p c S → pp (rz_T q.1) (rz_n q.1) f 8 d a [] c S = some r → wk_V q.1.1 mX3_sum (D, 20 * (rz_n q.1 - c0) + 20, xq_N q lo c0 S0 X0 G0 r, xq_X q G0 r, hp_cs G0, hp_ss G0) 6 [(0, vR (some q.1.2.1)), (1, vI (nI d)), (2, vR (some (X a)))] [] G (20 * (rz_n q.1 - c) + 20))
    (hs : xq_pre q lo c S X G) (pn : pin q S0 X0 G0 S X G) (hc0 : c0 ≤ c) (hpre : pp_pre (rz_n q.1) 8 a [] lf p c S) (h : pp_lp (rz_T q.1) (rz_n q.1) (pp (rz_T q.1) (rz_n q.1) f) 9 8 (kk_sum (rz_T q.1) (rz_n q.1)) d a c S = some r) : wk_V q.1.1 mX3_sum (D, 20 * (rz_n q.1 - c0) + 20, xq_N q lo c0 S0 X0 G0 r, xq_X q G0 r, hp_cs G0, hp_ss G0) 6 [(0, vR (some q.1.2.1)), (1, vI (nI d)), (2, vR (some (X a)))] [] G (20 * (rz_n q.1 - c) + 20) := by
  have hp := hs.1
  have kR := hp.1.1.1.1
  have hR0 := hpre.R (by omega)
  obtain ⟨b1, b2, b3, b4, hV⟩ := hs.nums
  have hpc := hpre.2.1
  have hpa : a + 1 = p := by have h5 := hpre.2.2.2.2; rw [if_pos (by omega)] at h5; exact h5.1
  have hpS : pr_p S = a + 1 := by rw [pr_p, hpre.1, nI_clamp (by omega), hpa]
  have hla := hR0.2.2.2.1
  unfold pp_lp at h
  have out : kk_sum (rz_T q.1) (rz_n q.1) c = 0 → ∀ r2, 20 * (rz_n q.1 - c) + 20 ≤ r2 → wk_V q.1.1 mX3_sum (D, 20 * (rz_n q.1 - c0) + 20, xq_N q lo c0 S0 X0 G0 r, xq_X q G0 r, hp_cs G0, hp_ss G0) 61 [(2, vR (some (X a)))] [] G r2 := by
    intro hk r2 hr2
    rw [if_pos hk] at h
    exact wk_less hr2 (wk_cb (by omega) fun hcb => blX3_sum_61 ⟨a, c, S, X, (Option.some.inj h).symm, rfl, hp, pn, hcb.mono (by omega)⟩)
  have back : ∀ (k : Int32) r1 G2 e1 c1 S1 X1 c2, kk_sum (rz_T q.1) (rz_n q.1) c = k → k ≠ 0 → c + 1 ≤ c2 → (∀ (x : Nat) (c1 : Nat) (S1 : MS), r1 = .inr (x, c1, S1) → (pr_b (pr_two S1 k a x c1) fun x c2 S2 => pp (rz_T q.1) (rz_n q.1) f 8 d x [] c2 S2) = some r) → pp (rz_T q.1) (rz_n q.1) f 9 d 0 [] c2 S = some r1 → r1 = .inr (e1, c1, S1) → ∀ G1, xq_pre q lo c2 S X G1 → pin q S X G S X G1 → pst q lo c1 S1 X1 G2 → pin q S X G1 S1 X1 G2 → wk_V q.1.1 mX3_sum (D, 20 * (rz_n q.1 - c0) + 20, xq_N q lo c0 S0 X0 G0 r, xq_X q G0 r, hp_cs G0, hp_ss G0) 54 [(0, vR (some q.1.2.1)), (1, vI (nI d))] [vR (some (X1 e1)), vR (some (X a)), vI (xo k), vR (some q.1.2.1)] G2 (20 * (rz_n q.1 - c1) + 20 + 8) := by
    intro k r1 G2 e1 c1 S1 X1 c2 hk h0 hcc hr h1 he1 G1 z1 pn1 hp2 pn2
    obtain ⟨g1, g2⟩ := kk_sum_ok (T := (rz_T q.1)) (n := (rz_n q.1)) (c := c) (by rw [hk]; exact h0)
    rw [hk] at g2
    have hk7 : 7 ≤ k ∧ k ≤ 21 := by
      have : kk_sum (rz_T q.1) (rz_n q.1) c = k := hk
      unfold kk_sum at this
      repeat' split at this
      all_goals first | (rw [← this]; decide) | exact absurd this.symm h0
    have hr := hr _ _ _ he1
    obtain ⟨y1, hR1, f1, f2, f3, f4, f5, f6, f7, f8, f9⟩ := xq_R ih.2.2 h1 he1 (by omega) z1 hp2 (fun u => absurd u (by omega))
    rw [hpS] at hR1 f3 f6
    obtain ⟨r2, h2, hx2, hr⟩ := pr_b_some hr
    refine blX3_sum_54 rfl hp2.1.1.1.1 (X3_two_A (D := 8) (kind := k) (X1 := X) (b := e1) z1 hpS (by omega) y1 hR1 f2 (by omega) hk7 h2 (pn2.2.2.1 _ (by omega)) (Nat.le_refl 8)) (by show _ ≤ D; omega) (by omega) ?_ (fun E a G' u => wk_out0 rfl ⟨3, c1, hx2 _ u.1, u.2.of ((pn.tr pn1).tr pn2).2.2.2.2.1 (fun j hj => ((pn.tr pn1).tr pn2).2.2.2.2.2 j (by omega)) (fun _ _ u => u)⟩)
    rintro v G3 ⟨X', S', he2, rfl, m1, m2⟩
    have hr2 := hr _ _ _ he2
    subst he2
    obtain ⟨hR2, -⟩ := pp_two (Inv := fun _ => True) pc_cl_T (by omega) hpc hR0 hcc (by rw [← hpS]; exact (by rw [hpS]; exact hR1)) hV g2 h2 id id
    dsimp only at hR2
    have z2 : xq_pre q lo c1 S' X' G3 := ⟨m1, hR2.pq hpc hV, by have := m2.2.1; omega, fun j hj => y1.2.2.2 j (by have := m2.2.1; omega)⟩
    refine blX3_sum_57 (wk_less (by omega) (lp (e1 + 1) c1 (e1 + 1 + 1) S' X' G3 z2 (((pn.tr pn1).tr pn2).tr m2) (by omega) (hR2.pre hpc hV (by omega)) hr2))

  have go : ∀ k : Int32, kk_sum (rz_T q.1) (rz_n q.1) c = k → k ≠ 0 → ∀ r2, 20 * (rz_n q.1 - c) + 20 ≤ r2 → wk_V q.1.1 mX3_sum (D, 20 * (rz_n q.1 - c0) + 20, xq_N q lo c0 S0 X0 G0 r, xq_X q G0 r, hp_cs G0, hp_ss G0) 41 [(0, vR (some q.1.2.1)), (1, vI (nI d)), (2, vR (some (X a)))] [vI (xo k)] G r2 := by
    intro k hk h0 r2 hr2
    refine wk_less hr2 ?_
    rw [hk, if_neg h0] at h
    obtain ⟨g1, g2⟩ := kk_sum_ok (T := (rz_T q.1)) (n := (rz_n q.1)) (c := c) (by rw [hk]; exact h0)
    obtain ⟨t1, s1⟩ := lx_tk g1
    obtain ⟨r1, h1, hx1, h⟩ := pr_b_some h
    refine blX3_sum_41 kR (X3_scan_A (d := 7) hp.1 (Nat.le_refl 7)) (by show _ ≤ D; omega) (by omega) ?_ (fun _ _ _ u => absurd u id)
    rintro v G1 ⟨rfl, t3, t4⟩
    obtain ⟨hp1, pn1⟩ := hp.scan t3 t4
    refine wk_have fun hA hB => ?_
    refine blX3_sum_46 hp1.1.1.1.1 (ih.1 9 d _ lo S X G1 r1 (20 * (42 - d) + 60 - 9) (by decide) (hs.tok hp1 (by omega)) (Or.inl hd) h1 (Nat.le_refl _)) (by show _ ≤ D; omega) (by omega) ?_ (fun E a G' u => wk_out0 rfl (u.up (pn.tr pn1) hx1))
    rintro v G2 ⟨e1, c1, S1, X1, he1, rfl, hp2, pn2, hb2⟩
    have hc1 := hp2.1.2.1
    have hge : lx_next (rz_T q.1) (rz_n q.1) c ≤ c1 := by
      obtain ⟨-, -, -, -, -, u, -⟩ := xq_R ih.2.2 h1 he1 (by omega) (hs.tok hp1 (by omega)) hp2 (fun u => absurd u (by omega))
      exact u
    refine wk_bk hA hB hb2 (r' := 20 * (rz_n q.1 - c1) + 20 + 8) (by omega) ?_
    exact back k r1 G2 e1 c1 S1 X1 _ hk h0 (by omega) h h1 he1 G1 (hs.tok hp1 (by omega)) pn1 hp2 pn2
  have sg : ∀ k, k ∈ zg_L → (hp_r G q.1.2.1 6 = zg q.1.1 k ↔ lx_kind (rz_T q.1) (rz_n q.1) c = k) := fun k hk => hp.1.sign hk
  have kd : kk_sum (rz_T q.1) (rz_n q.1) c ≠ 0 → ∀ r2, 20 * (rz_n q.1 - c) + 20 ≤ r2 → wk_V q.1.1 mX3_sum (D, 20 * (rz_n q.1 - c0) + 20, xq_N q lo c0 S0 X0 G0 r, xq_X q G0 r, hp_cs G0, hp_ss G0) 26 [(0, vR (some q.1.2.1)), (1, vI (nI d)), (2, vR (some (X a)))] [] G r2 := by
    intro hk r2 hr2
    refine blX3_sum_26 kR (fun u => blX3_sum_40 (go 18 ?_ (by decide) _ (by omega))) (fun u => blX3_sum_36 (go 17 ?_ (by decide) _ (by omega)))
    · have u1 : ¬ lx_kind (rz_T q.1) (rz_n q.1) c = 43 := fun v => u ((sg 43 (by decide)).2 v)
      unfold kk_sum at hk ⊢; rw [if_neg u1] at hk ⊢; split; rfl; rename_i u; rw [if_neg u] at hk; exact absurd rfl hk
    · rw [kk_sum, if_pos ((sg 43 (by decide)).1 u)]
  refine blX3_sum_6 kR (fun u => kd (by rw [kk_sum, if_pos ((sg 43 (by decide)).1 u)]; decide) _ (by omega)) (fun u => ?_)
  have u1 : ¬ lx_kind (rz_T q.1) (rz_n q.1) c = 43 := fun v => u ((sg 43 (by decide)).2 v)
  exact blX3_sum_16 kR (fun u => out (by rw [kk_sum, if_neg u1, if_neg (fun v => u ((sg 45 (by decide)).2 v))]) _ (by omega)) (fun u => kd (by rw [kk_sum, if_neg u1, if_pos ((sg 45 (by decide)).1 u)]; decide) _ (by omega))
theorem X3_product_L {f D d a c c0 p lo lf : Nat} {S0 S : MS} {X0 X : Nat → Nat} {G0 G : GH} {r : PE} (ih : xq_IH q (pp (rz_T q.1) (rz_n q.1) f)) (hd : d ≤ 40) (hD : 20 * (42 - d) + 60 - 9 ≤ D) (hlf : lo ≤ lf) (lp : ∀ a c p S X G, xq_pre q lo c S X G → pin q S0 X0 G0 S X G → c0 ≤ c → pp_pre (rz_n q.1) 10 a [] lf p c S → pp (rz_T q.1) (rz_n q.1) f 10 d a [] c S = some r → wk_V q.1.1 mX3_product (D, 20 * (rz_n q.1 - c0) + 20, xq_N q lo c0 S0 X0 G0 r, xq_X q G0 r, hp_cs G0, hp_ss G0) 6 [(0, vR (some q.1.2.1)), (1, vI (nI d)), (2, vR (some (X a)))] [] G (20 * (rz_n q.1 - c) + 20))
    (hs : xq_pre q lo c S X G) (pn : pin q S0 X0 G0 S X G) (hc0 : c0 ≤ c) (hpre : pp_pre (rz_n q.1) 10 a [] lf p c S) (h : pp_lp (rz_T q.1) (rz_n q.1) (pp (rz_T q.1) (rz_n q.1) f) 11 10 (kk_prd (rz_T q.1) (rz_n q.1)) d a c S = some r) : wk_V q.1.1 mX3_product (D, 20 * (rz_n q.1 - c0) + 20, xq_N q lo c0 S0 X0 G0 r, xq_X q G0 r, hp_cs G0, hp_ss G0) 6 [(0, vR (some q.1.2.1)), (1, vI (nI d)), (2, vR (some (X a)))] [] G (20 * (rz_n q.1 - c) + 20) := by
  have hp := hs.1
  have kR := hp.1.1.1.1
  have hR0 := hpre.R (by omega)
  obtain ⟨b1, b2, b3, b4, hV⟩ := hs.nums
  have hpc := hpre.2.1
  have hpa : a + 1 = p := by have h5 := hpre.2.2.2.2; rw [if_pos (by omega)] at h5; exact h5.1
  have hpS : pr_p S = a + 1 := by rw [pr_p, hpre.1, nI_clamp (by omega), hpa]
  have hla := hR0.2.2.2.1
  unfold pp_lp at h
  have out : kk_prd (rz_T q.1) (rz_n q.1) c = 0 → ∀ r2, 20 * (rz_n q.1 - c) + 20 ≤ r2 → wk_V q.1.1 mX3_product (D, 20 * (rz_n q.1 - c0) + 20, xq_N q lo c0 S0 X0 G0 r, xq_X q G0 r, hp_cs G0, hp_ss G0) 82 [(2, vR (some (X a)))] [] G r2 := by
    intro hk r2 hr2
    rw [if_pos hk] at h
    exact wk_less hr2 (wk_cb (by omega) fun hcb => blX3_product_82 ⟨a, c, S, X, (Option.some.inj h).symm, rfl, hp, pn, hcb.mono (by omega)⟩)
  have back : ∀ (k : Int32) r1 G2 e1 c1 S1 X1 c2, kk_prd (rz_T q.1) (rz_n q.1) c = k → k ≠ 0 → c + 1 ≤ c2 → (∀ (x : Nat) (c1 : Nat) (S1 : MS), r1 = .inr (x, c1, S1) → (pr_b (pr_two S1 k a x c1) fun x c2 S2 => pp (rz_T q.1) (rz_n q.1) f 10 d x [] c2 S2) = some r) → pp (rz_T q.1) (rz_n q.1) f 11 d 0 [] c2 S = some r1 → r1 = .inr (e1, c1, S1) → ∀ G1, xq_pre q lo c2 S X G1 → pin q S X G S X G1 → pst q lo c1 S1 X1 G2 → pin q S X G1 S1 X1 G2 → wk_V q.1.1 mX3_product (D, 20 * (rz_n q.1 - c0) + 20, xq_N q lo c0 S0 X0 G0 r, xq_X q G0 r, hp_cs G0, hp_ss G0) 75 [(0, vR (some q.1.2.1)), (1, vI (nI d))] [vR (some (X1 e1)), vR (some (X a)), vI (xo k), vR (some q.1.2.1)] G2 (20 * (rz_n q.1 - c1) + 20 + 8) := by
    intro k r1 G2 e1 c1 S1 X1 c2 hk h0 hcc hr h1 he1 G1 z1 pn1 hp2 pn2
    obtain ⟨g1, g2⟩ := kk_prd_ok (T := (rz_T q.1)) (n := (rz_n q.1)) (c := c) (by rw [hk]; exact h0)
    rw [hk] at g2
    have hk7 : 7 ≤ k ∧ k ≤ 21 := by
      have : kk_prd (rz_T q.1) (rz_n q.1) c = k := hk
      unfold kk_prd at this
      repeat' split at this
      all_goals first | (rw [← this]; decide) | exact absurd this.symm h0
    have hr := hr _ _ _ he1
    obtain ⟨y1, hR1, f1, f2, f3, f4, f5, f6, f7, f8, f9⟩ := xq_R ih.2.2 h1 he1 (by omega) z1 hp2 (fun u => absurd u (by omega))
    rw [hpS] at hR1 f3 f6
    obtain ⟨r2, h2, hx2, hr⟩ := pr_b_some hr
    refine blX3_product_75 rfl hp2.1.1.1.1 (X3_two_A (D := 8) (kind := k) (X1 := X) (b := e1) z1 hpS (by omega) y1 hR1 f2 (by omega) hk7 h2 (pn2.2.2.1 _ (by omega)) (Nat.le_refl 8)) (by show _ ≤ D; omega) (by omega) ?_ (fun E a G' u => wk_out0 rfl ⟨3, c1, hx2 _ u.1, u.2.of ((pn.tr pn1).tr pn2).2.2.2.2.1 (fun j hj => ((pn.tr pn1).tr pn2).2.2.2.2.2 j (by omega)) (fun _ _ u => u)⟩)
    rintro v G3 ⟨X', S', he2, rfl, m1, m2⟩
    have hr2 := hr _ _ _ he2
    subst he2
    obtain ⟨hR2, -⟩ := pp_two (Inv := fun _ => True) pc_cl_T (by omega) hpc hR0 hcc (by rw [← hpS]; exact (by rw [hpS]; exact hR1)) hV g2 h2 id id
    dsimp only at hR2
    have z2 : xq_pre q lo c1 S' X' G3 := ⟨m1, hR2.pq hpc hV, by have := m2.2.1; omega, fun j hj => y1.2.2.2 j (by have := m2.2.1; omega)⟩
    refine blX3_product_78 (wk_less (by omega) (lp (e1 + 1) c1 (e1 + 1 + 1) S' X' G3 z2 (((pn.tr pn1).tr pn2).tr m2) (by omega) (hR2.pre hpc hV (by omega)) hr2))

  have go : ∀ k : Int32, kk_prd (rz_T q.1) (rz_n q.1) c = k → k ≠ 0 → ∀ r2, 20 * (rz_n q.1 - c) + 20 ≤ r2 → wk_V q.1.1 mX3_product (D, 20 * (rz_n q.1 - c0) + 20, xq_N q lo c0 S0 X0 G0 r, xq_X q G0 r, hp_cs G0, hp_ss G0) 62 [(0, vR (some q.1.2.1)), (1, vI (nI d)), (2, vR (some (X a)))] [vI (xo k)] G r2 := by
    intro k hk h0 r2 hr2
    refine wk_less hr2 ?_
    rw [hk, if_neg h0] at h
    obtain ⟨g1, g2⟩ := kk_prd_ok (T := (rz_T q.1)) (n := (rz_n q.1)) (c := c) (by rw [hk]; exact h0)
    obtain ⟨t1, s1⟩ := lx_tk g1
    obtain ⟨r1, h1, hx1, h⟩ := pr_b_some h
    refine blX3_product_62 kR (X3_scan_A (d := 7) hp.1 (Nat.le_refl 7)) (by show _ ≤ D; omega) (by omega) ?_ (fun _ _ _ u => absurd u id)
    rintro v G1 ⟨rfl, t3, t4⟩
    obtain ⟨hp1, pn1⟩ := hp.scan t3 t4
    refine wk_have fun hA hB => ?_
    refine blX3_product_67 hp1.1.1.1.1 (ih.1 11 d _ lo S X G1 r1 (20 * (42 - d) + 60 - 11) (by decide) (hs.tok hp1 (by omega)) (Or.inl hd) h1 (Nat.le_refl _)) (by show _ ≤ D; omega) (by omega) ?_ (fun E a G' u => wk_out0 rfl (u.up (pn.tr pn1) hx1))
    rintro v G2 ⟨e1, c1, S1, X1, he1, rfl, hp2, pn2, hb2⟩
    have hc1 := hp2.1.2.1
    have hge : lx_next (rz_T q.1) (rz_n q.1) c ≤ c1 := by
      obtain ⟨-, -, -, -, -, u, -⟩ := xq_R ih.2.2 h1 he1 (by omega) (hs.tok hp1 (by omega)) hp2 (fun u => absurd u (by omega))
      exact u
    refine wk_bk hA hB hb2 (r' := 20 * (rz_n q.1 - c1) + 20 + 8) (by omega) ?_
    exact back k r1 G2 e1 c1 S1 X1 _ hk h0 (by omega) h h1 he1 G1 (hs.tok hp1 (by omega)) pn1 hp2 pn2
  have sg : ∀ k, k ∈ zg_L → (hp_r G q.1.2.1 6 = zg q.1.1 k ↔ lx_kind (rz_T q.1) (rz_n q.1) c = k) := fun k hk => hp.1.sign hk
  have kd : kk_prd (rz_T q.1) (rz_n q.1) c ≠ 0 → ∀ r2, 20 * (rz_n q.1 - c) + 20 ≤ r2 → wk_V q.1.1 mX3_product (D, 20 * (rz_n q.1 - c0) + 20, xq_N q lo c0 S0 X0 G0 r, xq_X q G0 r, hp_cs G0, hp_ss G0) 34 [(0, vR (some q.1.2.1)), (1, vI (nI d)), (2, vR (some (X a)))] [] G r2 := by
    intro hk r2 hr2
    refine blX3_product_34 kR (fun u => ?_) (fun u => blX3_product_44 (go 19 ?_ (by decide) _ (by omega)))
    · have u1 : ¬ lx_kind (rz_T q.1) (rz_n q.1) c = 42 := fun v => u ((sg 42 (by decide)).2 v)
      refine blX3_product_48 kR (X3_is_C (tx := "div") (d := 2) hp.1 hp.2.1.1.1 (by simp [lx_words]) (Nat.le_refl 2)) (by show _ ≤ D; omega) (Nat.zero_le _) ?_ (fun _ _ _ u => absurd u id)
      rintro v G1 ⟨rfl, rfl⟩
      refine blX3_product_54 (fun u => blX3_product_61 (go 21 ?_ (by decide) _ (by omega))) (fun u => blX3_product_57 (go 20 ?_ (by decide) _ (by omega)))
      · unfold kk_prd at hk ⊢; rw [if_neg u1, if_neg (lx_b0.1 u)] at hk ⊢; split; rfl; rename_i u; rw [if_neg u] at hk; exact absurd rfl hk
      · rw [kk_prd, if_neg u1, if_pos (lx_b1 u)]
    · rw [kk_prd, if_pos ((sg 42 (by decide)).1 u)]
  refine blX3_product_6 kR (fun u => kd (by rw [kk_prd, if_pos ((sg 42 (by decide)).1 u)]; decide) _ (by omega)) (fun u => ?_)
  have u1 : ¬ lx_kind (rz_T q.1) (rz_n q.1) c = 42 := fun v => u ((sg 42 (by decide)).2 v)
  refine blX3_product_16 kR (X3_is_C (tx := "div") (d := 2) hp.1 hp.2.1.1.1 (by simp [lx_words]) (Nat.le_refl 2)) (by show _ ≤ D; omega) (Nat.zero_le _) ?_ (fun _ _ _ u => absurd u id)
  rintro v G1 ⟨rfl, rfl⟩
  refine blX3_product_22 (fun u => kd (by rw [kk_prd, if_neg u1, if_pos (lx_b1 u)]; decide) _ (by omega)) (fun u => ?_)
  have u2 := lx_b0.1 u
  refine blX3_product_25 kR (X3_is_C (tx := "mod") (d := 2) hp.1 hp.2.1.1.1 (by simp [lx_words]) (Nat.le_refl 2)) (by show _ ≤ D; omega) (Nat.zero_le _) ?_ (fun _ _ _ u => absurd u id)
  rintro v G1 ⟨rfl, rfl⟩
  exact blX3_product_31 (fun u => out (by rw [kk_prd, if_neg u1, if_neg u2, if_neg (lx_b0.1 u)]) _ (by omega)) (fun u => kd (by rw [kk_prd, if_neg u1, if_neg u2, if_pos (lx_b1 u)]; decide) _ (by omega))
theorem X3_either_W {f d c lo D : Nat} {S : MS} {X : Nat → Nat} {G : GH} {r : PE} (ih : xq_IH q (pp (rz_T q.1) (rz_n q.1) f)) (lp : ∀ S0 X0 G0 c0 lf a c p S X G, lo ≤ lf → xq_pre q lo c S X G → pin q S0 X0 G0 S X G → c0 ≤ c → pp_pre (rz_n q.1) 3 a [] lf p c S → pp (rz_T q.1) (rz_n q.1) f 3 d a [] c S = some r → wk_V q.1.1 mX3_either (D, 20 * (rz_n q.1 - c0) + 20, xq_N q lo c0 S0 X0 G0 r, xq_X q G0 r, hp_cs G0, hp_ss G0) 6 [(0, vR (some q.1.2.1)), (1, vI (nI d)), (2, vR (some (X a)))] [] G (20 * (rz_n q.1 - c) + 20)) (h : xq_pre q lo c S X G) (hd : d ≤ 40) (hr : pp_fst (pp (rz_T q.1) (rz_n q.1) f) 4 3 d c S = some r) (hD : 20 * (42 - d) + 60 - 2 ≤ D) : wk_C q.1.1 mX3_either D (20 * (rz_n q.1 - c) + 20) [vR (some q.1.2.1), vI (nI d)] G (xq_N q lo c S X G r) (xq_X q G r) := by
  have hp := h.1
  obtain ⟨b1, b2, b3, b4, hV⟩ := h.nums
  refine wk_C_of (by decide) rfl (Nat.le_of_ble_eq_true rfl) ?_
  unfold pp_fst at hr
  obtain ⟨r1, h1, hx1, hr⟩ := pr_b_some hr
  refine wk_have fun hA hB => ?_
  refine blX3_either_0 hp.1.1.1.1 (ih.1 4 d c lo S X _ r1 (20 * (42 - d) + 60 - 4) (by decide) h (Or.inl hd) h1 (Nat.le_refl _)) (by show _ ≤ D; omega) (by omega) ?_ (fun E a G' u => wk_out0 rfl (u.up (pin.id0 (S := S) (X := X)) hx1))
  rintro v G2 ⟨e1, c1, S1, X1, he1, rfl, hp1, pn1, hb1⟩
  have hr := hr _ _ _ he1
  obtain ⟨y1, hR1, g1, g2, g3, g4, g5, g6, g7, g8, g9⟩ := xq_R ih.2.2 h1 he1 (by omega) h hp1 (fun u => absurd u (by omega))
  refine blX3_either_5 ?_
  exact wk_bk hA hB hb1 (by omega) (lp S X G c (pr_p S) e1 c1 (e1 + 1) S1 X1 G2 h.2.2.1 y1 pn1 (by omega) (hR1.pre b2 hV (by omega)) hr)
theorem X3_both_W {f d c lo D : Nat} {S : MS} {X : Nat → Nat} {G : GH} {r : PE} (ih : xq_IH q (pp (rz_T q.1) (rz_n q.1) f)) (lp : ∀ S0 X0 G0 c0 lf a c p S X G, lo ≤ lf → xq_pre q lo c S X G → pin q S0 X0 G0 S X G → c0 ≤ c → pp_pre (rz_n q.1) 5 a [] lf p c S → pp (rz_T q.1) (rz_n q.1) f 5 d a [] c S = some r → wk_V q.1.1 mX3_both (D, 20 * (rz_n q.1 - c0) + 20, xq_N q lo c0 S0 X0 G0 r, xq_X q G0 r, hp_cs G0, hp_ss G0) 6 [(0, vR (some q.1.2.1)), (1, vI (nI d)), (2, vR (some (X a)))] [] G (20 * (rz_n q.1 - c) + 20)) (h : xq_pre q lo c S X G) (hd : d ≤ 40) (hr : pp_fst (pp (rz_T q.1) (rz_n q.1) f) 6 5 d c S = some r) (hD : 20 * (42 - d) + 60 - 4 ≤ D) : wk_C q.1.1 mX3_both D (20 * (rz_n q.1 - c) + 20) [vR (some q.1.2.1), vI (nI d)] G (xq_N q lo c S X G r) (xq_X q G r) := by
  have hp := h.1
  obtain ⟨b1, b2, b3, b4, hV⟩ := h.nums
  refine wk_C_of (by decide) rfl (Nat.le_of_ble_eq_true rfl) ?_
  unfold pp_fst at hr
  obtain ⟨r1, h1, hx1, hr⟩ := pr_b_some hr
  refine wk_have fun hA hB => ?_
  refine blX3_both_0 hp.1.1.1.1 (ih.1 6 d c lo S X _ r1 (20 * (42 - d) + 60 - 6) (by decide) h (Or.inl hd) h1 (Nat.le_refl _)) (by show _ ≤ D; omega) (by omega) ?_ (fun E a G' u => wk_out0 rfl (u.up (pin.id0 (S := S) (X := X)) hx1))
  rintro v G2 ⟨e1, c1, S1, X1, he1, rfl, hp1, pn1, hb1⟩
  have hr := hr _ _ _ he1
  obtain ⟨y1, hR1, g1, g2, g3, g4, g5, g6, g7, g8, g9⟩ := xq_R ih.2.2 h1 he1 (by omega) h hp1 (fun u => absurd u (by omega))
  refine blX3_both_5 ?_
  exact wk_bk hA hB hb1 (by omega) (lp S X G c (pr_p S) e1 c1 (e1 + 1) S1 X1 G2 h.2.2.1 y1 pn1 (by omega) (hR1.pre b2 hV (by omega)) hr)
theorem X3_sum_W {f d c lo D : Nat} {S : MS} {X : Nat → Nat} {G : GH} {r : PE} (ih : xq_IH q (pp (rz_T q.1) (rz_n q.1) f)) (lp : ∀ S0 X0 G0 c0 lf a c p S X G, lo ≤ lf → xq_pre q lo c S X G → pin q S0 X0 G0 S X G → c0 ≤ c → pp_pre (rz_n q.1) 8 a [] lf p c S → pp (rz_T q.1) (rz_n q.1) f 8 d a [] c S = some r → wk_V q.1.1 mX3_sum (D, 20 * (rz_n q.1 - c0) + 20, xq_N q lo c0 S0 X0 G0 r, xq_X q G0 r, hp_cs G0, hp_ss G0) 6 [(0, vR (some q.1.2.1)), (1, vI (nI d)), (2, vR (some (X a)))] [] G (20 * (rz_n q.1 - c) + 20)) (h : xq_pre q lo c S X G) (hd : d ≤ 40) (hr : pp_fst (pp (rz_T q.1) (rz_n q.1) f) 9 8 d c S = some r) (hD : 20 * (42 - d) + 60 - 7 ≤ D) : wk_C q.1.1 mX3_sum D (20 * (rz_n q.1 - c) + 20) [vR (some q.1.2.1), vI (nI d)] G (xq_N q lo c S X G r) (xq_X q G r) := by
  have hp := h.1
  obtain ⟨b1, b2, b3, b4, hV⟩ := h.nums
  refine wk_C_of (by decide) rfl (Nat.le_of_ble_eq_true rfl) ?_
  unfold pp_fst at hr
  obtain ⟨r1, h1, hx1, hr⟩ := pr_b_some hr
  refine wk_have fun hA hB => ?_
  refine blX3_sum_0 hp.1.1.1.1 (ih.1 9 d c lo S X _ r1 (20 * (42 - d) + 60 - 9) (by decide) h (Or.inl hd) h1 (Nat.le_refl _)) (by show _ ≤ D; omega) (by omega) ?_ (fun E a G' u => wk_out0 rfl (u.up (pin.id0 (S := S) (X := X)) hx1))
  rintro v G2 ⟨e1, c1, S1, X1, he1, rfl, hp1, pn1, hb1⟩
  have hr := hr _ _ _ he1
  obtain ⟨y1, hR1, g1, g2, g3, g4, g5, g6, g7, g8, g9⟩ := xq_R ih.2.2 h1 he1 (by omega) h hp1 (fun u => absurd u (by omega))
  refine blX3_sum_5 ?_
  exact wk_bk hA hB hb1 (by omega) (lp S X G c (pr_p S) e1 c1 (e1 + 1) S1 X1 G2 h.2.2.1 y1 pn1 (by omega) (hR1.pre b2 hV (by omega)) hr)
theorem X3_product_W {f d c lo D : Nat} {S : MS} {X : Nat → Nat} {G : GH} {r : PE} (ih : xq_IH q (pp (rz_T q.1) (rz_n q.1) f)) (lp : ∀ S0 X0 G0 c0 lf a c p S X G, lo ≤ lf → xq_pre q lo c S X G → pin q S0 X0 G0 S X G → c0 ≤ c → pp_pre (rz_n q.1) 10 a [] lf p c S → pp (rz_T q.1) (rz_n q.1) f 10 d a [] c S = some r → wk_V q.1.1 mX3_product (D, 20 * (rz_n q.1 - c0) + 20, xq_N q lo c0 S0 X0 G0 r, xq_X q G0 r, hp_cs G0, hp_ss G0) 6 [(0, vR (some q.1.2.1)), (1, vI (nI d)), (2, vR (some (X a)))] [] G (20 * (rz_n q.1 - c) + 20)) (h : xq_pre q lo c S X G) (hd : d ≤ 40) (hr : pp_fst (pp (rz_T q.1) (rz_n q.1) f) 11 10 d c S = some r) (hD : 20 * (42 - d) + 60 - 9 ≤ D) : wk_C q.1.1 mX3_product D (20 * (rz_n q.1 - c) + 20) [vR (some q.1.2.1), vI (nI d)] G (xq_N q lo c S X G r) (xq_X q G r) := by
  have hp := h.1
  obtain ⟨b1, b2, b3, b4, hV⟩ := h.nums
  refine wk_C_of (by decide) rfl (Nat.le_of_ble_eq_true rfl) ?_
  unfold pp_fst at hr
  obtain ⟨r1, h1, hx1, hr⟩ := pr_b_some hr
  refine wk_have fun hA hB => ?_
  refine blX3_product_0 hp.1.1.1.1 (ih.1 11 d c lo S X _ r1 (20 * (42 - d) + 60 - 11) (by decide) h (Or.inl hd) h1 (Nat.le_refl _)) (by show _ ≤ D; omega) (by omega) ?_ (fun E a G' u => wk_out0 rfl (u.up (pin.id0 (S := S) (X := X)) hx1))
  rintro v G2 ⟨e1, c1, S1, X1, he1, rfl, hp1, pn1, hb1⟩
  have hr := hr _ _ _ he1
  obtain ⟨y1, hR1, g1, g2, g3, g4, g5, g6, g7, g8, g9⟩ := xq_R ih.2.2 h1 he1 (by omega) h hp1 (fun u => absurd u (by omega))
  refine blX3_product_5 ?_
  exact wk_bk hA hB hb1 (by omega) (lp S X G c (pr_p S) e1 c1 (e1 + 1) S1 X1 G2 h.2.2.1 y1 pn1 (by omega) (hR1.pre b2 hV (by omega)) hr)
end
