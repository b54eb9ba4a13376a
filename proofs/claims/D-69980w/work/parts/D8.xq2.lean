/-! THE COMPONENT's PARSER: expression -/
set_option maxRecDepth 100000
theorem ch_two {S : MS} {a b : Nat} (hab : a ≠ b) (hbb : S.2 35 b = -1) : md_ch ((ml_sa S 35 a (nI b)).2 35) (pm_first [a, b]) [a, b] := by
  refine ⟨rfl, ?_⟩
  show md_ch _ ((ml_sa S 35 a (nI b)).2 35 a) [b]
  rw [ml_sa_a, if_pos rfl, if_pos rfl]
  refine ⟨rfl, ?_⟩
  show (ml_sa S 35 a (nI b)).2 35 b < 0
  rw [ml_sa_a, if_pos rfl, if_neg (Ne.symm hab), hbb]
  decide
section
variable {q : PZ} {rec : PF}
theorem xw_56 {a e x : Nat} {G : GH} {s o : Int32} (h : (s = 5 ∧ hp_i G x 5 = 0) ∨ (s = 6 ∧ hp_i G x 5 = 1)) : xw q a G e x s o := by
  rcases h with ⟨rfl, h⟩ | ⟨rfl, h⟩
  · exact ⟨fun u => (u.elim (fun v => absurd v (by decide)) (fun v => absurd v (by decide))), fun u => absurd u (by decide), fun u => absurd u (by decide), fun _ => h, fun u => absurd u (by decide), fun u => absurd u.1 (by decide), fun u => absurd u (by decide)⟩
  · exact ⟨fun u => (u.elim (fun v => absurd v (by decide)) (fun v => absurd v (by decide))), fun u => absurd u (by decide), fun u => absurd u (by decide), fun u => absurd u (by decide), fun _ => h, fun u => absurd u.1 (by decide), fun u => absurd u (by decide)⟩
theorem X3_expr_W {d c lo D : Nat} {S : MS} {X : Nat → Nat} {G : GH} {r : PE} (ih : xq_IH q rec) (h : xq_pre q lo c S X G) (hd : d ≤ 41) (hr : pp_expr (rz_T q.1) (rz_n q.1) rec d c S = some r) (hD : 20 * (42 - d) + 60 - 0 ≤ D) : wk_C q.1.1 mX3_expression D (20 * (rz_n q.1 - c) + 20) [vR (some q.1.2.1), vI (nI d)] G (xq_N q lo c S X G r) (xq_X q G r) := by
  have hp := h.1
  have k1 := hp.1.1.1.1
  have hlo := h.2.2.1
  refine wk_C_of (by decide) rfl (Nat.le_of_ble_eq_true rfl) ?_
  unfold pp_expr at hr
  refine blX3_expression_0 k1 (X3_deep_C (d := 1) hp.1 (by omega) (Nat.le_refl 1)) (by show _ ≤ D; omega) (Nat.zero_le _) ?_ (fun E a G' u => wk_out0 rfl (u.2.X (pin.id0 (S := S) (X := X)) (by rw [← hr, if_pos u.1])))
  rintro v G1 ⟨rfl, hd40, rfl⟩
  rw [if_neg (by omega)] at hr
  refine wk_have fun hA hB => ?_
  refine blX3_expression_5 k1 (X3_skip_2_C (tx := "if") (d := 8) hp.1 hp.2.1.1.1 (by simp [lx_words]) (Nat.le_refl 8)) (by show _ ≤ D; omega) (by omega) ?_ (fun _ _ _ u => absurd u id)
  rintro v G3 (⟨hk, rfl, t1, t2⟩ | ⟨hk, rfl, rfl⟩)
  · rw [if_pos hk] at hr
    obtain ⟨tk1, tk2⟩ := lx_tkw (T := rz_T q.1) (n := rz_n q.1) (c := c) hk
    obtain ⟨hp1, pn1⟩ := hp.scan t1 t2
    obtain ⟨r1, h1, hx1, hr⟩ := pr_b_some hr
    refine blX3_expression_11 (fun u => absurd u (by decide)) (fun _ => ?_)
    refine blX3_expression_14 (by omega) (fun t ht hA => ?_)
    obtain ⟨w1, w2, w3, w4⟩ := nw_x (k := 16) hp1 ht
    refine blX3_expression_17 w2 rfl (by rw [w3]; exact X14_init_C (d := 5) w1 hA w4 (Nat.le_refl 5)) (by show _ ≤ D; omega) (by omega) ?_ (fun _ _ _ u => absurd u id)
    rintro v G4 ⟨rfl, hto⟩
    obtain ⟨L, s1, s2, s3, s4⟩ := pd_new (G3 := G4) hp1 pn1 ht hA (by decide) hto cf.rf rfl ⟨rfl, rfl⟩
    have x1' := h.tok s1 (by omega)
    refine wk_have fun hA hB => ?_
    refine blX3_expression_25 rfl s2.1.1 s1.1.1.1.1 (ih.nx 0 d _ lo S X G4 r1 (20 * (42 - (d + 1)) + 60 - 0) (by decide) x1' (by omega) h1 (Nat.le_refl _)) (by show _ ≤ D; omega) (by omega) ?_ (fun E a G' u => wk_out0 rfl (u.up s3 hx1))
    rintro v G5 ⟨e1, c1, S1, X1, he1, rfl, hp2, pn2, hb2⟩
    have hr := hr _ _ _ he1
    obtain ⟨y1, hR1, g1, g2, g3, g4, g5, g6, g7, g8, g9⟩ := xq_R ih.2.2 h1 he1 (by omega) x1' hp2 (fun u => absurd u (by omega))
    obtain ⟨d1, d2, d3⟩ := s2.pin (by decide) s1 pn2
    have n1 := s3.tr pn2
    refine wk_bk hA hB hb2 (r' := 20 * (rz_n q.1 - c1) + 20 + 8) (by omega) ?_
    refine blX3_expression_37 s2.2.2.1.1 d1.2.2.1.2.2.2.1.1 (pd_add (d := 6) hp2 n1 d1 (by decide) (e := e1) (by omega) (by decide) (Nat.le_refl 6)) (by show _ ≤ D; omega) (by show 1 ≤ _; omega) ?_ (fun _ _ _ u => absurd u id)
    rintro v G6 ⟨rfl, a1, a2, a3, a4, a5⟩
    have z1 := y1.tok a1 (Nat.le_refl _)
    refine blX3_expression_40 a1.1.1.1.1 (X3_need_2_C (tx := "then") (d := 9) a1.1 a1.2.1.1.1 (by simp [lx_words]) (Nat.le_refl 9)) (by show _ ≤ D; omega) (by show 10 ≤ _ - 1; omega) ?_ (fun E a G' u => wk_out0 rfl (u.2.X a2 (by rw [← hr, if_neg u.1])))
    rintro v G7 ⟨rfl, hk2, t3, t4⟩
    rw [if_pos hk2] at hr
    obtain ⟨tk3, tk4⟩ := lx_tkw (T := rz_T q.1) (n := rz_n q.1) (c := c1) hk2
    obtain ⟨hp3, pn3⟩ := a1.scan t3 t4
    obtain ⟨b1, b2, b3⟩ := a3.pin (by decide) a1 pn3
    have n2 := a2.tr pn3
    have x2' := z1.tok hp3 (by omega)
    obtain ⟨r2, h2, hx2, hr⟩ := pr_b_some hr
    refine wk_have fun hA hB => ?_
    refine blX3_expression_47 rfl b1.1.1 hp3.1.1.1.1 (ih.nx 0 d _ lo S1 X1 G7 r2 (20 * (42 - (d + 1)) + 60 - 0) (by decide) x2' (by omega) h2 (Nat.le_refl _)) (by show _ ≤ D; omega) (by show _ ≤ _ - 1 - 10; omega) ?_ (fun E a G' u => wk_out0 rfl (u.up n2 hx2))
    rintro v G8 ⟨e2, c2, S2, X2, he2, rfl, hp4, pn4, hb4⟩
    have hr := hr _ _ _ he2
    obtain ⟨y2, hR2, f1, f2, f3, f4, f5, f6, f7, f8, f9⟩ := xq_R ih.2.2 h2 he2 (by omega) x2' hp4 (fun u => absurd u (by omega))
    rw [g2] at hR2 f3 f6
    obtain ⟨d4, d5, d6⟩ := b1.pin (by decide) hp3 pn4
    have n3 := n2.tr pn4
    refine wk_bk hA hB hb4 (r' := 20 * (rz_n q.1 - c2) + 20 + 8) (by show _ ≤ _ - 1 - 10; omega) ?_
    refine blX3_expression_58 b1.2.2.1.1 d4.2.2.1.2.2.2.1.1 (pd_add (d := 6) hp4 n3 d4 (by decide) (e := e2) (by omega) (by show 1 < 2 ^ 20; decide) (Nat.le_refl 6)) (by show _ ≤ D; omega) (by show 0 ≤ _; omega) ?_ (fun _ _ _ u => absurd u id)
    rintro v G9 ⟨rfl, a6, a7, a8, a9, a10⟩
    have z2 := y2.tok a6 (Nat.le_refl _)
    refine blX3_expression_61 a6.1.1.1.1 (X3_need_2_C (tx := "else") (d := 9) a6.1 a6.2.1.1.1 (by simp [lx_words]) (Nat.le_refl 9)) (by show _ ≤ D; omega) (by show 10 ≤ _ - 0; omega) ?_ (fun E a G' u => wk_out0 rfl (u.2.X a7 (by rw [← hr, if_neg u.1])))
    rintro v G10 ⟨rfl, hk3, t5, t6⟩
    rw [if_pos hk3] at hr
    obtain ⟨tk5, tk6⟩ := lx_tkw (T := rz_T q.1) (n := rz_n q.1) (c := c2) hk3
    obtain ⟨hp5, pn5⟩ := a6.scan t5 t6
    obtain ⟨b4, b5, b6⟩ := a8.pin (by decide) a6 pn5
    have n4 := a7.tr pn5
    obtain ⟨r3, h3, hx3, hr⟩ := pr_b_some hr
    have nk1 := nokid (lo := lo) (S := S2) (p1 := e1 + 1) (a := e1) (fun p2 e => by rw [e, f2]; exact hR2.2.2.2.2.2.2.2.2.2.2) rfl (by omega)
    have x3' := (z2.tok hp5 (c1 := lx_next (rz_T q.1) (rz_n q.1) c2) (by omega)).bs (a := e1) (v := nI e2) nk1
    have n4' := n4.bs (a := e1) (v := nI e2)
    refine wk_have fun hA hB => ?_
    refine blX3_expression_68 rfl b4.1.1 hp5.1.1.1.1 (ih.nx 0 d _ lo _ X2 G10 r3 (20 * (42 - (d + 1)) + 60 - 0) (by decide) x3' (by omega) h3 (Nat.le_refl _)) (by show _ ≤ D; omega) (by show _ ≤ _ - 0 - 10; omega) ?_ (fun E a G' u => wk_out0 rfl (u.up n4' hx3))
    rintro v G11 ⟨e3, c3, S3, X3, he3, rfl, hp6, pn6, hb6⟩
    have hr := hr _ _ _ he3
    obtain ⟨y3, hR3, i1, i2, i3, i4, i5, i6, i7, i8, i9⟩ := xq_R ih.2.2 h3 he3 (by omega) x3' hp6 (fun u => absurd u (by omega))
    have ep2 : pr_p (ml_sa S2 35 e1 (nI e2)) = e2 + 1 := f2
    rw [ep2] at hR3 i3 i6
    have b4' : pd q lo (ml_sa S2 35 e1 (nI e2)) _ G10 X2 t 16 _ _ L := b4
    have z3 : al_b (([] : List Nat) ++ [e1] ++ [e2]).length (al_c (([] : List Nat) ++ [e1]).length (al_c ([] : List Nat).length 0)) = 0 := rfl
    obtain ⟨d7, d8, d9⟩ := b4'.pin (by decide) x3'.1 pn6
    have n5 := n4'.tr pn6
    refine wk_bk hA hB hb6 (r' := 20 * (rz_n q.1 - c3) + 20 + 8) (by show _ ≤ _ - 0 - 10; omega) ?_
    refine blX3_expression_79 b4.2.2.1.1 d7.2.2.1.2.2.2.1.1 (pd_add (d := 6) hp6 n5 d7 (by decide) (e := e3) (by omega) (by show 2 < 2 ^ 20; decide) (Nat.le_refl 6)) (by show _ ≤ D; omega) (by show 0 ≤ _; omega) ?_ (fun _ _ _ u => absurd u id)
    rintro v G12 ⟨rfl, a11, a12, a13, a14, a15⟩
    have nk2 := nokid (lo := lo) (S := S3) (p1 := e2 + 1) (a := e2) (fun p2 e => by rw [e, i2]; exact hR3.2.2.2.2.2.2.2.2.2.2) rfl (by omega)
    have hch : md_ch ((ml_sa S3 35 e2 (nI e3)).2 35) (pm_first ([e1] ++ [e2] ++ [e3])) ([e1] ++ [e2] ++ [e3]) := by
      refine ⟨rfl, ?_⟩
      have q1 : (ml_sa S3 35 e2 (nI e3)).2 35 e1 = nI e2 := by
        rw [ml_sa_a, if_pos rfl, if_neg (by omega), hR3.2.2.2.2.2.2.2.2.1 35 e1 (by decide) (by decide) (by omega), ml_sa_a, if_pos rfl, if_pos rfl]
      show md_ch _ ((ml_sa S3 35 e2 (nI e3)).2 35 e1) [e2, e3]
      rw [q1]
      exact ch_two (by omega) hR3.2.2.2.2.1
    refine blX3_expression_82 a11.1.1.1.1 (X3_wh_C (d := 3) (mv := qM q (e3 + 1)) (p := e3 + 1) (kind := 4) (what := 0) (a11.bs nk2) (a12.bs (v := nI e3)) a13 (by decide) (xw_0 (Or.inl rfl)) hch hr i1 (by omega) (Nat.le_refl 3)) (by show _ ≤ D; omega) (Nat.zero_le _) ?_ (fun E a G' u => wk_out0 rfl ⟨3, c3, u.1, u.2⟩)
    rintro v G13 ⟨rfl, S', rfl, m1, m2⟩
    rw [qU_self] at m1
    exact wk_cb (by omega) fun hcb => blX3_expression_88 ⟨e3 + 1, c3, S', _, rfl, by unfold hp_u1; rw [if_pos rfl], m1, m2, hcb.mono (by omega)⟩
  · rw [if_neg hk] at hr
    refine blX3_expression_11 (fun _ => ?_) (fun u => absurd rfl u)
    refine wk_bk hA hB cb.rf (u := 0) (r' := 20 * (rz_n q.1 - c) + 20) (by omega) ?_
    obtain ⟨r1, h1, hx1, hr⟩ := pr_b_some hr
    refine wk_have fun hA hB => ?_
    refine blX3_expression_89 k1 (ih.1 1 d c lo S X _ r1 (20 * (42 - d) + 60 - 1) (by decide) h (by omega) h1 (Nat.le_refl _)) (by show _ ≤ D; omega) (by omega) ?_ (fun E a G' u => wk_out0 rfl (u.up (pin.id0 (S := S) (X := X)) hx1))
    rintro v G2 ⟨e1, c1, S1, X1, he1, rfl, hp1, pn1, hb1⟩
    have hr := hr _ _ _ he1
    obtain ⟨hx1', hR1, g1, g2, g3, g4, g5, g6, g7, g8, g9⟩ := xq_R ih.2.2 h1 he1 (by omega) h hp1 (fun u => absurd u (by omega))
    refine wk_bk hA hB hb1 (r' := 20 * (rz_n q.1 - c1) + 20) (by omega) ?_
    have kR := hp1.1.1.1.1
    have go : ∀ (kk b : Int32), (kk = 5 ∧ b = 0) ∨ (kk = 6 ∧ b = 1) → lx_kind (rz_T q.1) (rz_n q.1) c1 ≠ 0 → (pr_b (rec 0 (d + 1) 0 [] (lx_next (rz_T q.1) (rz_n q.1) c1) S1) fun y c2 S2 => pr_two S2 kk e1 y c2) = some r → wk_V q.1.1 mX3_expression (D, 20 * (rz_n q.1 - c) + 20, xq_N q lo c S X G3 r, xq_X q G3 r, hp_cs G3, hp_ss G3) 118 [(0, vR (some q.1.2.1)), (1, vI (nI d)), (2, vR (some (X1 e1))), (3, vI b)] [] G2 (20 * (rz_n q.1 - c1) + 20) := by
      intro kk b hkb hk0 hr
      obtain ⟨tk1, tk2⟩ := lx_tk (T := rz_T q.1) (n := rz_n q.1) (c := c1) hk0
      refine blX3_expression_118 kR (X3_scan_A (d := 7) hp1.1 (Nat.le_refl 7)) (by show _ ≤ D; omega) (by omega) ?_ (fun _ _ _ u => absurd u id)
      rintro v G4 ⟨rfl, t1, t2⟩
      obtain ⟨hp2, pn2⟩ := hp1.scan t1 t2
      have n1 := pn1.tr pn2
      refine blX3_expression_122 (by omega) (fun t ht hA => ?_)
      obtain ⟨w1, w2, w3, w4⟩ := nw_x (k := 17) hp2 ht
      refine blX3_expression_125 w2 rfl (by rw [w3]; exact X21_init_C (d := 5) w1 (hkb.imp (fun u => u.2) (fun u => u.2)) hA w4 (Nat.le_refl 5)) (by show _ ≤ D; omega) (by omega) ?_ (fun _ _ _ u => absurd u id)
      rintro v G5 ⟨rfl, G6, hto, rfl⟩
      obtain ⟨L, s1, s2, s3, s4⟩ := pd_new (G3 := hp_sI G6 t 5 b) hp2 n1 ht hA (by decide) hto (cf.rf.sI (Or.inl rfl)) (by rw [hp_i_sI, if_pos rfl, if_neg (by decide)]) ⟨rfl, rfl⟩
      have i5 : hp_i (hp_sI G6 t 5 b) t 5 = b := by rw [hp_i_sI, if_pos rfl, if_pos rfl]
      generalize hp_sI G6 t 5 b = G7 at s1 s2 s3 s4 i5
      have r3 := s2.2.2.1.1
      refine blX3_expression_134 rfl s2.1.1 r3 s2.2.2.1.2.2.2.1.1 (pd_add (d := 6) s1 s3 s2 (by decide) (e := e1) (by omega) (by decide) (Nat.le_refl 6)) (by show _ ≤ D; omega) (by show 1 ≤ _; omega) ?_ (fun _ _ _ u => absurd u id)
      rintro v G8 ⟨rfl, a1, a2, a3, a4, a5⟩
      have x2' := hx1'.tok a1 (c1 := lx_next (rz_T q.1) (rz_n q.1) c1) (by omega)
      obtain ⟨r2, h2, hx2, hr⟩ := pr_b_some hr
      refine wk_have fun hA hB => ?_
      refine blX3_expression_145 rfl a3.1.1 a1.1.1.1.1 (ih.nx 0 d _ lo S1 X1 G8 r2 (20 * (42 - (d + 1)) + 60 - 0) (by decide) x2' (by omega) h2 (Nat.le_refl _)) (by show _ ≤ D; omega) (by show _ ≤ _ - 1; omega) ?_ (fun E a G' u => wk_out0 rfl (u.up a2 hx2))
      rintro v G9 ⟨e2, c2, S2, X2, he2, rfl, hp3, pn3, hb3⟩
      have hr := hr _ _ _ he2
      obtain ⟨y2, hR2, f1, f2, f3, f4, f5, f6, f7, f8, f9⟩ := xq_R ih.2.2 h2 he2 (by omega) x2' hp3 (fun u => absurd u (by omega))
      rw [g2] at hR2 f3 f6
      obtain ⟨d4, d5, d6⟩ := a3.pin (by decide) a1 pn3
      have n3 := a2.tr pn3
      refine wk_bk hA hB hb3 (r' := 20 * (rz_n q.1 - c2) + 20) (by show _ ≤ _ - 1; omega) ?_
      refine blX3_expression_158 (by rw [a5]; exact r3) d4.2.2.1.2.2.2.1.1 (pd_add (d := 6) hp3 n3 d4 (by decide) (e := e2) (by omega) (by show 1 < 2 ^ 20; decide) (Nat.le_refl 6)) (by show _ ≤ D; omega) (by show 0 ≤ _; omega) ?_ (fun _ _ _ u => absurd u id)
      rintro v G10 ⟨rfl, a6, a7, a8, a9, a10⟩
      have nk := nokid (lo := lo) (S := S2) (p1 := e1 + 1) (a := e1) (fun p2 e => by rw [e, f2]; exact hR2.2.2.2.2.2.2.2.2.2.2) rfl (by omega)
      have e5 : hp_i G10 t 5 = b := by rw [a9, d5, a4]; exact i5
      have w0 : al_b (([] : List Nat) ++ [e1]).length (al_c ([] : List Nat).length 0) = 0 := rfl
      have z0 : al_b ([] : List Nat).length 0 = 1 := rfl
      have ek : xk kk = 17 ∧ 3 ≤ kk ∧ kk ≤ 26 := by rcases hkb with ⟨u, -⟩ | ⟨u, -⟩ <;> rw [u] <;> decide
      refine blX3_expression_161 a6.1.1.1.1 (X3_wh_C (d := 3) (mv := qM q (e2 + 1)) (p := e2 + 1) (kind := kk) (what := 0) (a6.bs nk) (a7.bs (v := nI e2)) (by rw [ek.1]; exact a8) ek.2 (xw_56 (hkb.imp (fun u => ⟨u.1, e5.trans u.2⟩) (fun u => ⟨u.1, e5.trans u.2⟩))) (ch_two (by omega) hR2.2.2.2.2.1) hr f1 (by omega) (Nat.le_refl 3)) (by show _ ≤ D; omega) (Nat.zero_le _) ?_ (fun E a G' u => wk_out0 rfl ⟨3, c2, u.1, u.2⟩)
      rintro v G11 ⟨rfl, S', rfl, m1, m2⟩
      rw [qU_self] at m1
      exact wk_cb (by omega) fun hcb => blX3_expression_168 ⟨e2 + 1, c2, S', _, rfl, by unfold hp_u1; rw [if_pos rfl], m1, m2, hcb.mono (by omega)⟩
    refine blX3_expression_94 kR (X3_is_C (tx := "fby") (d := 2) hp1.1 hp1.2.1.1.1 (by simp [lx_words]) (Nat.le_refl 2)) (by show _ ≤ D; omega) (Nat.zero_le _) ?_ (fun _ _ _ u => absurd u id)
    rintro v G4 ⟨rfl, rfl⟩
    refine blX3_expression_101 (fun u => ?_) (fun u => ?_)
    · have hf := lx_b1 u
      have n303 : lx_kind (rz_T q.1) (rz_n q.1) c1 ≠ 303 := by rw [hf.1]; decide
      rw [if_neg n303, if_pos hf] at hr
      rw [if_pos hf]
      exact go 6 1 (Or.inr ⟨rfl, rfl⟩) (by rw [hf.1]; decide) hr
    · have hf := lx_b0.1 u
      rw [if_neg hf]
      refine blX3_expression_106 kR (fun u2 => ?_) (fun u2 => ?_)
      · have h3 := (hp1.1.sign (k := 303) (by decide)).1 u2
        rw [if_pos h3] at hr
        exact go 5 0 (Or.inl ⟨rfl, rfl⟩) (by rw [h3]; decide) hr
      · rw [if_neg (fun u3 => u2 ((hp1.1.sign (k := 303) (by decide)).2 u3)), if_neg hf] at hr
        exact wk_cb (by omega) fun hcb => blX3_expression_116 ⟨e1, c1, S1, X1, (Option.some.inj hr).symm, rfl, hp1, pn1, hcb.mono (by omega)⟩
end
