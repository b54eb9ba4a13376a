/-! THE COMPONENT's PARSER: one, unary, when -/
set_option maxRecDepth 100000
section
variable {q : PZ} {rec : PF} {S0 S : MS} {X0 X : Nat → Nat} {G0 G : GH} {lo : Nat}
/-- a constructor has run on an object that was made before -/
theorem pd_init {t k c0 : Nat} {G2 G3 : GH} (hp : pst q lo c0 S X G) (h0 : pin q S0 X0 G0 S X G) (ht : hp_kd G t = k) (ht0 : hp_kd G0 t = 0) (nx : ∀ e, lo ≤ e → e < pr_p S → X e ≠ t) (hA : hp_A q.1.1 t) (hk : 15 ≤ k ∧ k ≤ 21) (h : to_P q.1.1 G t (some q.1.2.2.2.1) G2) (hf : cf (fun y => y = t) G2 G3) (e2 : hp_i G3 t 2 = hp_i G2 t 2) (e3 : hp_r G3 t 3 = hp_r G2 t 3 ∧ hp_r G3 t 4 = hp_r G2 t 4) :
    ∃ L, pst q lo c0 S X G3 ∧ pd q lo S G0 G3 X t k [] 0 L ∧ pin q S0 X0 G0 S X G3 := by
  obtain ⟨L, l1, l2, ⟨n1, n2, n3, n4, n5⟩, l4, l5, l6⟩ := h
  have kt2 : hp_kd G2 t = k := l4.k ht (by omega)
  have kt3 : hp_kd G3 t = k := hf.k kt2 (by omega)
  have f1 : cf (fun y => y = t) G G3 := l4.tr2 hf (fun a ha u => u)
  have hrx := rx_of (z := q.1) f1 (fun a u => by rw [u, ht]; omega)
  have hR := hp.1.1.1.1
  have nR : ¬ q.1.2.1 = t := fun u => by rw [u, ht] at hR; omega
  have al3 : al q.1.1 G3 L 0 0 (fun i => some (X (([] : List Nat).getD i 0))) := (n5.fr hf l2 (fun y _ hy u => by rw [u, kt2] at hy; omega)).cg (fun i hi => by omega)
  have hf0 := h0.2.2.2.2.1
  refine ⟨L, hp.wr f1 (fun y u => Or.inl (by rw [u, ht]; omega)) (fun e a1 a2 y hy u => ?_), ⟨⟨kt3, hA, ht0⟩, ⟨e2.trans n1, e3.2.trans n3⟩, ⟨e3.1.trans n2, n4.cg (hf.lg (by rw [n5.1.1]; decide)), hf0.1.fresh l1, al3⟩, fun _ _ => Or.inl rfl, nx, fun e he => by cases he⟩, h0.1, h0.2.1, h0.2.2.1, h0.2.2.2.1, hf0.tr hrx (fun a ha u => by rw [u] at ha; exact absurd ht0 ha), fun j hj => by rw [f1.r (by rw [hR]; decide) nR]; exact h0.2.2.2.2.2 j hj⟩
  subst u
  rcases hy with v | ⟨-, v⟩ | ⟨L', -, -, v⟩
  · exact nx e a1 a2 v.symm
  · omega
  · omega
theorem ch_one {a : Nat} (h : S.2 35 a = -1) : md_ch (S.2 35) (pm_first [a]) [a] := by
  refine ⟨rfl, ?_⟩
  rw [h]
  show (-1 : Int32) < 0
  decide
theorem xw_op {a e x : Nat} {G : GH} {s o : Int32} (hk : 22 ≤ s ∧ s ≤ 25) (h : s = 22 ∨ s = 23 → hp_i G x 5 = xo s) : xw q a G e x s o := by
  have hn : ∀ k, k < 22 → s ≠ nI k := by
    intro k hk2 u
    rw [u, show (22 : Int32) = nI 22 from rfl, nI_leI (by decide) (by omega)] at hk
    omega
  refine ⟨fun u => (u.elim (fun v => absurd v (hn 0 (by decide))) (fun v => absurd v (hn 1 (by decide)))), fun v => absurd v (hn 2 (by decide)), fun v => absurd v (hn 3 (by decide)), fun v => absurd v (hn 5 (by decide)), fun v => absurd v (hn 6 (by decide)), fun u => ?_, fun u => by rw [u] at hk; exact absurd hk.2 (by decide)⟩
  obtain ⟨k, k1, e⟩ := nI_of2 (x := s) (M := 25) (n := 25) (by decide) (fun q => Int32.not_lt.2 (Int32.le_trans (show (0 : Int32) ≤ 22 by decide) hk.1) q) hk.2
  have h22 := hk.1
  rw [e, show (22 : Int32) = nI 22 from rfl, nI_leI (by decide) (by omega)] at h22
  have h23 := u.2
  rw [e, show (23 : Int32) = nI 23 from rfl, nI_leI (by omega) (by decide)] at h23
  have : k = 22 ∨ k = 23 := by omega
  refine h ?_
  rw [e]
  rcases this with v | v <;> rw [v]
  · exact Or.inl rfl
  · exact Or.inr rfl
theorem X3_one_W {t L d c D : Nat} {kind : Int32} {r : PE} (ih : xq_IH q rec) (h : xq_pre q lo c S X G) (h0 : pin q S0 X0 G0 S X G) (hpd : pd q lo S G0 G X t (xk kind) [] 0 L) (hk : 22 ≤ kind ∧ kind ≤ 25) (h5 : kind = 22 ∨ kind = 23 → hp_i G t 5 = xo kind) (hd : d ≤ 40) (hk0 : lx_kind (rz_T q.1) (rz_n q.1) c ≠ 0)
    (hr : (pr_b (rec 11 (d + 1) 0 [] (lx_next (rz_T q.1) (rz_n q.1) c) S) fun x c1 S1 => pr_make S1 kind 0 [x] c1) = some r) (hD : 20 * (42 - d) + 48 ≤ D) :
    wk_C q.1.1 mX3_one D (20 * (rz_n q.1 - c) + 18) [vR (some q.1.2.1), vR (some t), vI (nI d)] G (fun v G' => ∃ e c' S' X', r = .inr (e, c', S') ∧ v = some (vR (some (X' e))) ∧ pst q lo c' S' X' G' ∧ pin q S0 X0 G0 S' X' G' ∧ cb (20 * (c' - c) - 2) G G') (xq_X q G0 r) := by
  have hp := h.1
  have hlo := h.2.2.1
  have hk3 : 3 ≤ kind ∧ kind ≤ 26 := ⟨Int32.le_trans (by decide) hk.1, Int32.le_trans hk.2 (by decide)⟩
  have hxk := xk_15 hk3
  obtain ⟨tk1, tk2⟩ := lx_tk (T := rz_T q.1) (n := rz_n q.1) (c := c) hk0
  obtain ⟨r1, h1, hx1, hr⟩ := pr_b_some hr
  refine wk_C_of (by decide) rfl (Nat.le_of_ble_eq_true rfl) ?_
  refine blX3_one_0 hp.1.1.1.1 (X3_scan_A (d := 7) hp.1 (Nat.le_refl 7)) (by show _ ≤ D; omega) (by omega) ?_ (fun _ _ _ u => absurd u id)
  rintro v G1 ⟨rfl, t3, t4⟩
  obtain ⟨hp1, pn1⟩ := hp.scan t3 t4
  obtain ⟨s2, i2, -⟩ := hpd.pin hxk hp pn1
  have n1 := h0.tr pn1
  have x1' := h.tok hp1 (by omega)
  refine wk_have fun hA hB => ?_
  refine blX3_one_4 rfl (by rw [s2.1.1]; exact hxk) hp1.1.1.1.1 (ih.nx 11 d _ lo S X G1 r1 (20 * (42 - (d + 1)) + 60 - 11) (by decide) x1' (by omega) h1 (Nat.le_refl _)) (by show _ ≤ D; omega) (by omega) ?_ (fun E a G' u => wk_out0 rfl (u.up n1 hx1))
  rintro v G2 ⟨e1, c1, S1, X1, he1, rfl, hp2, pn2, hb2⟩
  have hr := hr _ _ _ he1
  obtain ⟨y1, hR1, g1, g2, g3, g4, g5, g6, g7, g8, g9⟩ := xq_R ih.2.2 h1 he1 (by omega) x1' hp2 (fun u => absurd u (by omega))
  obtain ⟨d1, d2, d3⟩ := s2.pin hxk hp1 pn2
  have n2 := n1.tr pn2
  refine wk_bk hA hB hb2 (r' := 20 * (rz_n q.1 - c1) + 20 + 8) (by omega) ?_
  refine blX3_one_15 s2.2.2.1.1 d1.2.2.1.2.2.2.1.1 (pd_add (d := 6) hp2 n2 d1 hxk (e := e1) (by omega) (by decide) (Nat.le_refl 6)) (by show _ ≤ D; omega) (by show 1 ≤ _; omega) ?_ (fun _ _ _ u => absurd u id)
  rintro v G3 ⟨rfl, a1, a2, a3, a4, a5⟩
  refine blX3_one_18 a1.1.1.1.1 (X3_wh_C (d := 3) (mv := qM q (e1 + 1)) (p := e1 + 1) (kind := kind) (what := 0) a1 a2 a3 hk3 (xw_op hk (fun u => by rw [a4, d2, i2]; exact h5 u)) (ch_one hR1.2.2.2.2.1) hr g1 (by omega) (Nat.le_refl 3)) (by show _ ≤ D; omega) (Nat.zero_le _) ?_ (fun E a G' u => wk_out0 rfl ⟨3, c1, u.1, u.2⟩)
  rintro v G4 ⟨rfl, S', rfl, m1, m2⟩
  rw [qU_self] at m1
  exact wk_cb (by show _ - 1 - 0 ≤ _; omega) fun hcb => blX3_one_24 ⟨e1 + 1, c1, S', _, rfl, by unfold hp_u1; rw [if_pos rfl], m1, m2, hcb.mono (by show _ - (_ - 1 - 0) ≤ _; omega)⟩
end
section
variable {q : PZ} {rec : PF}
theorem X3_unary_W {d c lo D : Nat} {S : MS} {X : Nat → Nat} {G : GH} {r : PE} (ih : xq_IH q rec) (lp : ∀ S0 X0 G0 c0 lf a c p S X G, lo ≤ lf → xq_pre q lo c S X G → pin q S0 X0 G0 S X G → c0 ≤ c → pp_pre (rz_n q.1) 12 a [] lf p c S → rec 12 d a [] c S = some r → wk_V q.1.1 mX3_unary (D, 20 * (rz_n q.1 - c0) + 20, xq_N q lo c0 S0 X0 G0 r, xq_X q G0 r, hp_cs G0, hp_ss G0) 120 [(0, vR (some q.1.2.1)), (2, vR (some (X a)))] [] G (20 * (rz_n q.1 - c) + 20))
    (h : xq_pre q lo c S X G) (hd : d ≤ 41) (hr : pp_una (rz_T q.1) (rz_n q.1) rec d c S = some r) (hD : 20 * (42 - d) + 60 - 11 ≤ D) : wk_C q.1.1 mX3_unary D (20 * (rz_n q.1 - c) + 20) [vR (some q.1.2.1), vI (nI d)] G (xq_N q lo c S X G r) (xq_X q G r) := by
  have hp := h.1
  have k1 := hp.1.1.1.1
  obtain ⟨b1, b2, b3, b4, hV⟩ := h.nums
  refine wk_C_of (by decide) rfl (Nat.le_of_ble_eq_true rfl) ?_
  unfold pp_una at hr
  refine blX3_unary_0 k1 (X3_deep_C (d := 1) hp.1 (by omega) (Nat.le_refl 1)) (by show _ ≤ D; omega) (Nat.zero_le _) ?_ (fun E a G' u => wk_out0 rfl (u.2.X (pin.id0 (S := S) (X := X)) (by rw [← hr, if_pos u.1])))
  rintro v G1 ⟨rfl, hd40, rfl⟩
  rw [if_neg (by omega)] at hr
  have sg : hp_r G1 q.1.2.1 6 = zg q.1.1 45 ↔ lx_kind (rz_T q.1) (rz_n q.1) c = 45 := hp.1.sign (by decide)
  -- what one leaves
  have gone : ∀ (kk : Int32) t L G4, kk_una (rz_T q.1) (rz_n q.1) c = kk → 22 ≤ kk ∧ kk ≤ 25 → (kk = 22 ∨ kk = 23 → hp_i G4 t 5 = xo kk) → pst q lo c S X G4 → pd q lo S G1 G4 X t (xk kk) [] 0 L → pin q S X G1 S X G4 → wk_C q.1.1 mX3_one (20 * (42 - d) + 48) (20 * (rz_n q.1 - c) + 18) [vR (some q.1.2.1), vR (some t), vI (nI d)] G4 (fun v G' => ∃ e c' S' X', r = .inr (e, c', S') ∧ v = some (vR (some (X' e))) ∧ pst q lo c' S' X' G' ∧ pin q S X G1 S' X' G' ∧ cb (20 * (c' - c) - 2) G4 G') (xq_X q G1 r) := by
    intro kk t L G4 hkk hk5 h5 s1 s2 s3
    have h0 : kk ≠ 0 := fun u => by rw [u] at hk5; exact absurd hk5.1 (by decide)
    obtain ⟨g1, g2⟩ := kk_una_ok (T := rz_T q.1) (n := rz_n q.1) (c := c) (by rw [hkk]; exact h0)
    rw [hkk, if_neg h0] at hr
    exact X3_one_W ih (h.tok s1 (Nat.le_refl _)) s3 s2 hk5 h5 hd40 g1 hr (Nat.le_refl _)
  have cge : ∀ e c' S', r = .inr (e, c', S') → kk_una (rz_T q.1) (rz_n q.1) c ≠ 0 → c + 1 ≤ c' ∧ c' ≤ rz_n q.1 := by
    intro e c' S' he h0
    obtain ⟨g1, g2⟩ := kk_una_ok (T := rz_T q.1) (n := rz_n q.1) (c := c) h0
    obtain ⟨tk1, tk2⟩ := lx_tk g1
    rw [if_neg h0, he] at hr
    obtain ⟨e1, c1, S1, h1, h2⟩ := pr_b_ok hr
    have hR := (ih.2.2.main h1 (by omega) b1 (by omega) (by omega) hV (fun u => absurd u (by omega))).1
    obtain ⟨s1, x1, y1, z1, r1, u1, v1, w1, f1, l1, t1⟩ := hR
    have hm := (pr_make_ok h2 x1 (by dsimp only; omega)).2.1
    dsimp only at u1 v1 hm
    omega
  refine blX3_unary_5 k1 (fun u1 => ?_) (fun u => ?_)
  · have q1 : ¬ lx_kind (rz_T q.1) (rz_n q.1) c = 45 := fun v => u1 (sg.2 v)
    refine blX3_unary_34 k1 (X3_is_C (tx := "not") (d := 2) hp.1 hp.2.1.1.1 (by simp [lx_words]) (Nat.le_refl 2)) (by show _ ≤ D; omega) (Nat.zero_le _) ?_ (fun _ _ _ u => absurd u id)
    rintro v G2 ⟨rfl, rfl⟩
    refine blX3_unary_40 (fun u2 => ?_) (fun u => ?_)
    · have q2 := lx_b0.1 u2
      refine blX3_unary_62 k1 (X3_is_C (tx := "pre") (d := 2) hp.1 hp.2.1.1.1 (by simp [lx_words]) (Nat.le_refl 2)) (by show _ ≤ D; omega) (Nat.zero_le _) ?_ (fun _ _ _ u => absurd u id)
      rintro v G2 ⟨rfl, rfl⟩
      refine blX3_unary_68 (fun u3 => ?_) (fun u => ?_)
      · have q3 := lx_b0.1 u3
        refine blX3_unary_88 k1 (X3_is_C (tx := "current") (d := 2) hp.1 hp.2.1.1.1 (by simp [lx_words]) (Nat.le_refl 2)) (by show _ ≤ D; omega) (Nat.zero_le _) ?_ (fun _ _ _ u => absurd u id)
        rintro v G2 ⟨rfl, rfl⟩
        refine blX3_unary_94 (fun u4 => ?_) (fun u => ?_)
        · have q4 := lx_b0.1 u4
          rw [if_pos (show kk_una (rz_T q.1) (rz_n q.1) c = 0 by rw [kk_una, if_neg q1, if_neg q2, if_neg q3, if_neg q4])] at hr
          obtain ⟨r1, h1, hx1, hr⟩ := pr_b_some hr
          refine wk_have fun hA hB => ?_
          refine blX3_unary_114 k1 (ih.1 13 d c lo S X _ r1 (20 * (42 - d) + 60 - 13) (by decide) h (Or.inl hd40) h1 (Nat.le_refl _)) (by show _ ≤ D; omega) (by show _ ≤ _ - 0 - 0 - 0 - 0; omega) ?_ (fun E a G' u => wk_out0 rfl (u.up (pin.id0 (S := S) (X := X)) hx1))
          rintro v G2 ⟨e1, c1, S1, X1, he1, rfl, hp1, pn1, hb1⟩
          have hr := hr _ _ _ he1
          obtain ⟨y1, hR1, g1, g2, g3, g4, g5, g6, g7, g8, g9⟩ := xq_R ih.2.2 h1 he1 (by omega) h hp1 (fun u => absurd u (by omega))
          refine blX3_unary_119 ?_
          exact wk_bk hA hB hb1 (r' := 20 * (rz_n q.1 - c1) + 20) (by show _ ≤ _ - 0 - 0 - 0 - 0; omega) (lp S X _ c (pr_p S) e1 c1 (e1 + 1) S1 X1 G2 h.2.2.1 y1 pn1 (by omega) (hR1.pre b2 hV (by omega)) hr)
        · have hkk : kk_una (rz_T q.1) (rz_n q.1) c = 25 := by rw [kk_una, if_neg q1, if_neg q2, if_neg q3, if_pos (lx_b1 u)]
          refine blX3_unary_97 (by show 1 ≤ _ - 0 - 0 - 0 - 0; omega) (fun t ht hA => ?_)
          obtain ⟨w1, w2, w3, w4⟩ := nw_x (k := 20) hp ht
          refine blX3_unary_101 w2 rfl (by rw [w3]; exact X17_init_C (d := 5) w1 hA w4 (Nat.le_refl 5)) (by show _ ≤ D; omega) (by show 1 ≤ _ - 0 - 0 - 0 - 0 - 1; omega) ?_ (fun _ _ _ u => absurd u id)
          rintro v G4 ⟨rfl, hto⟩
          obtain ⟨L, s1, s2, s3, s4⟩ := pd_new (G3 := G4) hp pin.id0 ht hA (by decide) hto cf.rf rfl ⟨rfl, rfl⟩
          refine wk_have fun hA hB => ?_
          refine blX3_unary_109 rfl s1.1.1.1.1 (gone 25 t L G4 hkk (by decide) (fun u => u.elim (fun v => absurd v (by decide)) (fun v => absurd v (by decide))) s1 s2 s3) (by show _ ≤ D; omega) (by show _ ≤ _ - 0 - 0 - 0 - 0 - 1 - 1; omega) ?_ (fun E a G' u => wk_out0 rfl u)
          rintro v G5 ⟨e, c', S', X', he, rfl, m1, m2, m3⟩
          obtain ⟨o1, o2⟩ := cge e c' S' he (by rw [hkk]; decide)
          exact wk_bk hA hB m3 (r' := 20 * (rz_n q.1 - c') + 20) (by show _ ≤ _ - 0 - 0 - 0 - 0 - 1 - 1; omega) (wk_cb (by omega) fun hcb => blX3_unary_113 ⟨e, c', S', X', he, rfl, m1, m2, hcb.mono (by omega)⟩)
      · have hkk : kk_una (rz_T q.1) (rz_n q.1) c = 24 := by rw [kk_una, if_neg q1, if_neg q2, if_pos (lx_b1 u)]
        refine blX3_unary_71 (by show 1 ≤ _ - 0 - 0 - 0; omega) (fun t ht hA => ?_)
        obtain ⟨w1, w2, w3, w4⟩ := nw_x (k := 18) hp ht
        refine blX3_unary_75 w2 rfl (by rw [w3]; exact X16_init_C (d := 5) w1 hA w4 (Nat.le_refl 5)) (by show _ ≤ D; omega) (by show 1 ≤ _ - 0 - 0 - 0 - 1; omega) ?_ (fun _ _ _ u => absurd u id)
        rintro v G4 ⟨rfl, hto⟩
        obtain ⟨L, s1, s2, s3, s4⟩ := pd_new (G3 := G4) hp pin.id0 ht hA (by decide) hto cf.rf rfl ⟨rfl, rfl⟩
        refine wk_have fun hA hB => ?_
        refine blX3_unary_83 rfl s1.1.1.1.1 (gone 24 t L G4 hkk (by decide) (fun u => u.elim (fun v => absurd v (by decide)) (fun v => absurd v (by decide))) s1 s2 s3) (by show _ ≤ D; omega) (by show _ ≤ _ - 0 - 0 - 0 - 1 - 1; omega) ?_ (fun E a G' u => wk_out0 rfl u)
        rintro v G5 ⟨e, c', S', X', he, rfl, m1, m2, m3⟩
        obtain ⟨o1, o2⟩ := cge e c' S' he (by rw [hkk]; decide)
        exact wk_bk hA hB m3 (r' := 20 * (rz_n q.1 - c') + 20) (by show _ ≤ _ - 0 - 0 - 0 - 1 - 1; omega) (wk_cb (by omega) fun hcb => blX3_unary_87 ⟨e, c', S', X', he, rfl, m1, m2, hcb.mono (by omega)⟩)
    · have hkk : kk_una (rz_T q.1) (rz_n q.1) c = 23 := by rw [kk_una, if_neg q1, if_pos (lx_b1 u)]
      refine blX3_unary_43 (by show 1 ≤ _ - 0 - 0; omega) (fun t ht hA => ?_)
      obtain ⟨w1, w2, w3, w4⟩ := nw_x (k := 15) hp ht
      refine blX3_unary_47 w2 rfl (by rw [w3]; exact X15_init_C (d := 5) w1 hA w4 (Nat.le_refl 5)) (by show _ ≤ D; omega) (by show 1 ≤ _ - 0 - 0 - 1; omega) ?_ (fun _ _ _ u => absurd u id)
      rintro v G4 ⟨rfl, G5, hto, rfl⟩
      obtain ⟨L, s1, s2, s3, s4⟩ := pd_new (G3 := hp_sI G5 t 5 16) hp pin.id0 ht hA (by decide) hto (cf.rf.sI (Or.inl rfl)) (by rw [hp_i_sI, if_pos rfl, if_neg (by decide)]) ⟨rfl, rfl⟩
      refine wk_have fun hA hB => ?_
      refine blX3_unary_57 rfl s1.1.1.1.1 (gone 23 t L _ hkk (by decide) (fun _ => by rw [hp_i_sI, if_pos rfl, if_pos rfl]; rfl) s1 s2 s3) (by show _ ≤ D; omega) (by show _ ≤ _ - 0 - 0 - 1 - 1; omega) ?_ (fun E a G' u => wk_out0 rfl u)
      rintro v G6 ⟨e, c', S', X', he, rfl, m1, m2, m3⟩
      obtain ⟨o1, o2⟩ := cge e c' S' he (by rw [hkk]; decide)
      exact wk_bk hA hB m3 (r' := 20 * (rz_n q.1 - c') + 20) (by show _ ≤ _ - 0 - 0 - 1 - 1; omega) (wk_cb (by omega) fun hcb => blX3_unary_61 ⟨e, c', S', X', he, rfl, m1, m2, hcb.mono (by omega)⟩)
  · have hkk : kk_una (rz_T q.1) (rz_n q.1) c = 22 := by rw [kk_una, if_pos (sg.1 u)]
    refine blX3_unary_15 (by show 1 ≤ _ - 0; omega) (fun t ht hA => ?_)
    obtain ⟨w1, w2, w3, w4⟩ := nw_x (k := 15) hp ht
    refine blX3_unary_19 w2 rfl (by rw [w3]; exact X15_init_C (d := 5) w1 hA w4 (Nat.le_refl 5)) (by show _ ≤ D; omega) (by show 1 ≤ _ - 0 - 1; omega) ?_ (fun _ _ _ u => absurd u id)
    rintro v G4 ⟨rfl, G5, hto, rfl⟩
    obtain ⟨L, s1, s2, s3, s4⟩ := pd_new (G3 := hp_sI G5 t 5 15) hp pin.id0 ht hA (by decide) hto (cf.rf.sI (Or.inl rfl)) (by rw [hp_i_sI, if_pos rfl, if_neg (by decide)]) ⟨rfl, rfl⟩
    refine wk_have fun hA hB => ?_
    refine blX3_unary_29 rfl s1.1.1.1.1 (gone 22 t L _ hkk (by decide) (fun _ => by rw [hp_i_sI, if_pos rfl, if_pos rfl]; rfl) s1 s2 s3) (by show _ ≤ D; omega) (by show _ ≤ _ - 0 - 1 - 1; omega) ?_ (fun E a G' u => wk_out0 rfl u)
    rintro v G6 ⟨e, c', S', X', he, rfl, m1, m2, m3⟩
    obtain ⟨o1, o2⟩ := cge e c' S' he (by rw [hkk]; decide)
    exact wk_bk hA hB m3 (r' := 20 * (rz_n q.1 - c') + 20) (by show _ ≤ _ - 0 - 1 - 1; omega) (wk_cb (by omega) fun hcb => blX3_unary_33 ⟨e, c', S', X', he, rfl, m1, m2, hcb.mono (by omega)⟩)
theorem s01 {s : Nat} (h : s < 2) : nI s = 0 ∨ nI s = 1 := by
  rcases (show s = 0 ∨ s = 1 by omega) with e | e
  · exact Or.inl (by rw [e]; rfl)
  · exact Or.inr (by rw [e]; rfl)
theorem X3_when_L {D d a c c0 p lo lf : Nat} {S0 S : MS} {X0 X : Nat → Nat} {G0 G : GH} {r : PE} (ih : xq_IH q rec) (hcmp : cmp_o q.1.1) (hD : 29 ≤ D) (hlf : lo ≤ lf) (lp : ∀ a c p S X G, xq_pre q lo c S X G → pin q S0 X0 G0 S X G → c0 ≤ c → pp_pre (rz_n q.1) 12 a [] lf p c S → rec 12 d a [] c S = some r → wk_V q.1.1 mX3_unary (D, 20 * (rz_n q.1 - c0) + 20, xq_N q lo c0 S0 X0 G0 r, xq_X q G0 r, hp_cs G0, hp_ss G0) 120 [(0, vR (some q.1.2.1)), (2, vR (some (X a)))] [] G (20 * (rz_n q.1 - c) + 20))
    (hs : xq_pre q lo c S X G) (pn : pin q S0 X0 G0 S X G) (hc0 : c0 ≤ c) (hpre : pp_pre (rz_n q.1) 12 a [] lf p c S) (h : pp_wh (rz_T q.1) (rz_n q.1) rec d a c S = some r) : wk_V q.1.1 mX3_unary (D, 20 * (rz_n q.1 - c0) + 20, xq_N q lo c0 S0 X0 G0 r, xq_X q G0 r, hp_cs G0, hp_ss G0) 120 [(0, vR (some q.1.2.1)), (2, vR (some (X a)))] [] G (20 * (rz_n q.1 - c) + 20) := by
  have hp := hs.1
  have kR := hp.1.1.1.1
  have hR0 := hpre.R (by omega)
  obtain ⟨b1, b2, b3, b4, hV⟩ := hs.nums
  have hpc := hpre.2.1
  have hpa : a + 1 = p := by have h5 := hpre.2.2.2.2; rw [if_pos (by omega)] at h5; exact h5.1
  have hpS : pr_p S = a + 1 := by rw [pr_p, hpre.1, nI_clamp (by omega), hpa]
  have hla := hR0.2.2.2.1
  have go : ∀ G1 cw s r2, xq_pre q lo cw S X G1 → pin q S0 X0 G0 S X G1 → c + 1 ≤ cw → s < 2 → pr_wh (rz_T q.1) (rz_n q.1) s cw S (fun w => pr_b (pr_make S 26 w [a] (lx_next (rz_T q.1) (rz_n q.1) cw)) fun x c2 S2 => rec 12 d x [] c2 S2) = some r → 20 * (rz_n q.1 - cw) + 20 + 10 ≤ r2 →
      wk_V q.1.1 mX3_unary (D, 20 * (rz_n q.1 - c0) + 20, xq_N q lo c0 S0 X0 G0 r, xq_X q G0 r, hp_cs G0, hp_ss G0) 143 [(0, vR (some q.1.2.1)), (2, vR (some (X a)))] [vI (nI s)] G1 r2 := by
    intro G1 cw s r2 z1 pn1 hcw hs2 h hr2
    have hp1 := z1.1
    refine wk_less hr2 ?_
    refine blX3_unary_143 (by omega) (fun t ht hA => ?_)
    obtain ⟨w1, w2, w3, w4⟩ := nw_x (k := 19) hp1 ht
    have f1 : cf (fun _ => False) G1 (hp_nw G1 t 19 0) := cf.rf.nw ht
    have hp2 : pst q lo cw S X (hp_nw G1 t 19 0) := hp1.wr f1 (fun y u => u.elim) (fun _ _ _ _ _ u => u)
    have pn2 : pin q S X G1 S X (hp_nw G1 t 19 0) := ⟨pe_same.rf, Nat.le_refl _, fun _ _ => rfl, fun j a b => absurd b (by omega), ⟨(rx_of (z := q.1) f1 (fun a u => u.elim)).1.mono (fun a _ u => u.imp (fun v => v.elim) id), (rx_of (z := q.1) f1 (fun a u => u.elim)).2⟩, fun k _ => by rw [f1.r (by rw [hp1.1.1.1.1]; decide) (fun u => u)]⟩
    have hfl := pr_fv_le (c := cw) hV
    refine blX3_unary_147 w2 (X3_onWhich_C (d := 26) hp2 hV hcmp (Nat.le_refl 26)) (by show _ ≤ D; omega) (by omega) ?_ (fun E a G' u => wk_out0 rfl ?_)
    · rintro v G3 ⟨hw, rfl, hp3, pn3⟩
      rw [hw.wh] at h
      obtain ⟨tk1, tk2⟩ := lx_tkn (T := rz_T q.1) (n := rz_n q.1) (c := cw) hw.1
      have hlt : pr_fv (rz_n q.1) S cw < pr_v S := Decidable.byContradiction fun u => hw.2.1 (Or.inl u)
      have h24 : S.2 24 (pr_fv (rz_n q.1) S cw) ≠ 0 := fun u => hw.2.1 (Or.inr u)
      have kt3 : hp_kd G3 t = 19 := pn3.2.2.2.2.1.1.k w1 (by decide)
      have hE3 : kE q.1.1 G3 := hp3.2.1.1.2.1
      have pn13 := (pn1.tr pn2).tr pn3
      have nx : ∀ e, lo ≤ e → e < pr_p S → X e ≠ t := fun e e1 e2 u => by
        have := (hp1.2.2.1 e e1 e2).1.1.1
        rw [u, ht] at this
        have := xk_r (S.2 32 e)
        omega
      refine blX3_unary_152 hp3.1.1.1.1 rfl (by rw [hp3.1.1.1.2.2.1]; exact X20_init_C (d := 5) kt3 (s01 hs2) hA hE3 (Nat.le_refl 5)) (by show _ ≤ D; omega) (by omega) ?_ (fun _ _ _ u => absurd u id)
      rintro v G4 ⟨rfl, G5, hto, rfl⟩
      obtain ⟨L, s1, s2, s3⟩ := pd_init (k := 19) (G3 := hp_sI (hp_sR G5 t 5 (some (qV q (pr_fv (rz_n q.1) S cw)))) t 6 (nI s)) hp3 pn13 kt3 (pn1.2.2.2.2.1.1.fresh ht) nx hA (by decide) hto (((cf.rf (own := fun y => y = t)).sR (Or.inl rfl)).sI (Or.inl rfl)) (by rw [hp_i_sI, if_pos rfl, if_neg (by decide)]; rfl) ⟨by rw [hp_r_sI, hp_r_sR, if_pos rfl, if_neg (by decide)], by rw [hp_r_sI, hp_r_sR, if_pos rfl, if_neg (by decide)]⟩
      have r5 : hp_r (hp_sI (hp_sR G5 t 5 (some (qV q (pr_fv (rz_n q.1) S cw)))) t 6 (nI s)) t 5 = some (qV q (pr_fv (rz_n q.1) S cw)) := by rw [hp_r_sI, hp_r_sR, if_pos rfl, if_pos rfl]
      have i6 : hp_i (hp_sI (hp_sR G5 t 5 (some (qV q (pr_fv (rz_n q.1) S cw)))) t 6 (nI s)) t 6 = nI s := by rw [hp_i_sI, if_pos rfl, if_pos rfl]
      generalize hp_sI (hp_sR G5 t 5 (some (qV q (pr_fv (rz_n q.1) S cw)))) t 6 (nI s) = G6 at s1 s2 s3 r5 i6
      refine blX3_unary_160 rfl s2.1.1 s2.2.2.1.1 s2.2.2.1.2.2.2.1.1 (pd_add (d := 6) s1 s3 s2 (by decide) (e := a) (by omega) (by decide) (Nat.le_refl 6)) (by show _ ≤ D; omega) (by show 1 ≤ _; omega) ?_ (fun _ _ _ u => absurd u id)
      rintro v G7 ⟨rfl, a1, a2, a3, a4, a5⟩
      obtain ⟨r1, h1, hx1, h⟩ := pr_b_some h
      refine blX3_unary_171 a1.1.1.1.1 (X3_wh_C (d := 3) (mv := qM q (a + 1)) (p := a + 1) (kind := 26) (what := nI (2 * (pr_fv (rz_n q.1) S cw - pr_a S) + s)) a1 a2 a3 (by decide) ?_ (ch_one hR0.2.2.2.2.1) h1 (by rw [b1, hpS]) (by omega) (Nat.le_refl 3)) (by show _ ≤ D; omega) (Nat.zero_le _) ?_ (fun E a G' u => wk_out0 rfl ⟨3, _, hx1 _ u.1, u.2⟩)
      · refine ⟨fun u => (u.elim (fun v => absurd v (by decide)) (fun v => absurd v (by decide))), fun u => absurd u (by decide), fun u => absurd u (by decide), fun u => absurd u (by decide), fun u => absurd u (by decide), fun u => absurd u.2 (by decide), fun _ => ⟨pr_fv (rz_n q.1) S cw - pr_a S, s, hs2, ?_, rfl, ?_, by rw [a4]; exact i6⟩⟩
        · have := hV.N.2.2.2.1; omega
        · rw [a5, r5, show pr_a S + (pr_fv (rz_n q.1) S cw - pr_a S) = pr_fv (rz_n q.1) S cw by omega]
          rfl
      · rintro v G8 ⟨rfl, S', he1, m1, m2⟩
        rw [qU_self] at m1
        have h := h _ _ _ he1
        obtain ⟨w, hw1, -, hw3⟩ : ∃ w, w = nI (2 * (pr_fv (rz_n q.1) S cw - pr_a S) + s) ∧ True ∧ pw_s S 26 w 1 := ⟨_, rfl, trivial, Or.inr (Or.inr (Or.inr (Or.inr (Or.inr (Or.inr (Or.inr ⟨rfl, rfl, pr_fv (rz_n q.1) S cw - pr_a S, s, hs2, by omega, by rw [show pr_a S + (pr_fv (rz_n q.1) S cw - pr_a S) = pr_fv (rz_n q.1) S cw by omega]; exact h24, rfl⟩))))))⟩
        rw [← hw1, he1] at h1
        obtain ⟨hR1, -⟩ := pp_one (Inv := fun _ => True) pc_cl_T (by omega) hpc hR0 (c2 := lx_next (rz_T q.1) (rz_n q.1) cw) (by omega) tk2 (by omega) hV (by decide) hw3 h1 id
        dsimp only at hR1
        have eX : hp_u1 X (a + 1) t (a + 1) = t := by unfold hp_u1; rw [if_pos rfl]
        generalize hp_u1 X (a + 1) t = X' at m1 m2 eX
        subst eX
        have z2 : xq_pre q lo (lx_next (rz_T q.1) (rz_n q.1) cw) S' X' G8 := ⟨m1, hR1.pq hpc hV, by have := m2.2.1; have := hs.2.2.1; have := hR1.2.1; rw [pr_p, this, nI_clamp (by omega)]; omega, fun j hj => hs.2.2.2 j (by have := hR1.2.1; rw [pr_p, this, nI_clamp (by omega)] at hj; omega)⟩
        exact blX3_unary_178 (wk_less (by show _ ≤ _ - 1 - 0; omega) (lp (a + 1) _ (a + 1 + 1) S' X' G8 z2 m2 (by omega) (hR1.pre hpc hV (by omega)) h))
    · obtain ⟨k, hk, he⟩ := u
      rw [hk.wh] at h
      exact he.X (pn1.tr pn2) h
  unfold pp_wh at h
  refine wk_have fun hA hB => ?_
  refine blX3_unary_120 kR (X3_skip_2_C (tx := "when") (d := 8) hp.1 hp.2.1.1.1 (by simp [lx_words]) (Nat.le_refl 8)) (by show _ ≤ D; omega) (by omega) ?_ (fun _ _ _ u => absurd u id)
  rintro v G1 (⟨hk, rfl, t1, t2⟩ | ⟨hk, rfl, rfl⟩)
  · rw [if_neg (fun u => u hk)] at h
    obtain ⟨tk1, tk2⟩ := lx_tkw (T := rz_T q.1) (n := rz_n q.1) (c := c) hk
    obtain ⟨hp1, pn1⟩ := hp.scan t1 t2
    refine blX3_unary_126 (fun u => absurd u (by decide)) (fun _ => ?_)
    refine wk_have fun hA hB => ?_
    refine blX3_unary_129 hp1.1.1.1.1 (X3_skip_2_C (tx := "not") (d := 8) hp1.1 hp1.2.1.1.1 (by simp [lx_words]) (Nat.le_refl 8)) (by show _ ≤ D; omega) (by omega) ?_ (fun _ _ _ u => absurd u id)
    rintro v G2 (⟨hk2, rfl, t3, t4⟩ | ⟨hk2, rfl, rfl⟩)
    · rw [if_pos hk2] at h
      obtain ⟨tk3, tk4⟩ := lx_tkw (T := rz_T q.1) (n := rz_n q.1) (c := lx_next (rz_T q.1) (rz_n q.1) c) hk2
      obtain ⟨hp2, pn2⟩ := hp1.scan t3 t4
      exact blX3_unary_135 (fun _ => blX3_unary_142 (go G2 _ 0 _ (hs.tok hp2 (by omega)) ((pn.tr pn1).tr pn2) (by omega) (by decide) h (by omega))) (fun u => absurd u (by decide))
    · rw [if_neg hk2] at h
      exact blX3_unary_135 (fun u => absurd rfl u) (fun _ => wk_bk hA hB cb.rf (u := 0) (r' := 20 * (rz_n q.1 - c) + 20 - 10) (by omega) (blX3_unary_138 (go _ _ 1 _ (hs.tok hp1 (by omega)) (pn.tr pn1) (by omega) (by decide) h (by omega))))
  · rw [if_pos (by exact hk)] at h
    exact blX3_unary_126 (fun _ => wk_bk hA hB cb.rf (u := 0) (r' := 20 * (rz_n q.1 - c) + 20) (by omega) (wk_cb (by omega) fun hcb => blX3_unary_182 ⟨a, c, S, X, (Option.some.inj h).symm, rfl, hp, pn, hcb.mono (by omega)⟩)) (fun u => absurd rfl u)
end
