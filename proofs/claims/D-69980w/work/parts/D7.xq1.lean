/-! THE COMPONENT's PARSER: expression, implied, compared -/
set_option maxRecDepth 100000
section
variable {q : PZ} {rec : PF}
theorem X3_impl_W {d c lo D : Nat} {S : MS} {X : Nat → Nat} {G : GH} {r : PE} (ih : xq_IH q rec) (h : xq_pre q lo c S X G) (hd : d ≤ 41) (hr : pp_impl (rz_T q.1) (rz_n q.1) rec d c S = some r) (hD : 20 * (42 - d) + 60 - 1 ≤ D) : wk_C q.1.1 mX3_implied D (20 * (rz_n q.1 - c) + 20) [vR (some q.1.2.1), vI (nI d)] G (xq_N q lo c S X G r) (xq_X q G r) := by
  have hp := h.1
  have k1 := hp.1.1.1.1
  refine wk_C_of (by decide) rfl (Nat.le_of_ble_eq_true rfl) ?_
  unfold pp_impl at hr
  refine blX3_implied_0 k1 (X3_deep_C (d := 1) hp.1 (by omega) (Nat.le_refl 1)) (by show _ ≤ D; omega) (Nat.zero_le _) ?_ (fun E a G' u => wk_out0 rfl (u.2.X (pin.id0 (S := S) (X := X)) (by rw [← hr, if_pos u.1])))
  rintro v G1 ⟨rfl, hd40, rfl⟩
  rw [if_neg (by omega)] at hr
  obtain ⟨r1, h1, hx1, hr⟩ := pr_b_some hr
  refine wk_have fun hA hB => ?_
  refine blX3_implied_5 k1 (ih.1 2 d c lo S X _ r1 (20 * (42 - d) + 60 - 2) (by decide) h (Or.inl hd40) h1 (Nat.le_refl _)) (by show _ ≤ D; omega) (by omega) ?_ (fun E a G' u => wk_out0 rfl (u.up (pin.id0 (S := S) (X := X)) hx1))
  rintro v G2 ⟨e1, c1, S1, X1, he1, rfl, hp1, pn1, hb1⟩
  have hr := hr _ _ _ he1
  obtain ⟨hx1', hR1, g1, g2, g3, g4, g5, g6, g7, g8, g9⟩ := xq_R ih.2.2 h1 he1 (by omega) h hp1 (fun u => absurd u (by omega))
  refine wk_bk hA hB hb1 (r' := 20 * (rz_n q.1 - c1) + 20) (by omega) ?_
  refine wk_have fun hA hB => ?_
  refine blX3_implied_10 hp1.1.1.1.1 (X3_skip_C (k := 304) (d := 8) hp1.1 (by decide) (Nat.le_refl 8)) (by show _ ≤ D; omega) (by omega) ?_ (fun _ _ _ u => absurd u id)
  rintro v G3 (⟨hk, rfl, t1, t2⟩ | ⟨hk, rfl, rfl⟩)
  · rw [if_pos hk] at hr
    obtain ⟨tk1, tk2⟩ := lx_tk (T := rz_T q.1) (n := rz_n q.1) (c := c1) (by rw [hk]; decide)
    obtain ⟨hp2, pn2⟩ := hp1.scan t1 t2
    obtain ⟨r2, h2, hx2, hr⟩ := pr_b_some hr
    refine blX3_implied_18 (fun u => absurd u (by decide)) (fun _ => ?_)
    refine wk_have fun hA hB => ?_
    refine blX3_implied_21 hp2.1.1.1.1 (ih.nx 1 d _ lo S1 X1 G3 r2 (20 * (42 - (d + 1)) + 60 - 1) (by decide) (hx1'.tok hp2 (by omega)) (by omega) h2 (Nat.le_refl _)) (by show _ ≤ D; omega) (by omega) ?_ (fun E a G' u => wk_out0 rfl (u.up (pn1.tr pn2) hx2))
    rintro v G4 ⟨e2, c2, S2, X2, he2, rfl, hp3, pn3, hb3⟩
    have hr := hr _ _ _ he2
    obtain ⟨hx2', hR2, f1, f2, f3, f4, f5, f6, f7, f8, f9⟩ := xq_R ih.2.2 h2 he2 (by omega) (hx1'.tok hp2 (by omega)) hp3 (fun u => absurd u (by omega))
    rw [g2] at hR2 f3 f6
    have hlo := h.2.2.1
    refine wk_bk hA hB hb3 (r' := 20 * (rz_n q.1 - c2) + 20 + 10) (by omega) ?_
    refine blX3_implied_32 rfl hp3.1.1.1.1 (X3_two_A (D := 8) (kind := 7) (hx1'.tok hp2 (by omega)) g2 (by omega) hx2' hR2 f2 (by omega) (by decide) hr (pn3.2.2.1 _ (by omega)) (Nat.le_refl 8)) (by show _ ≤ D; omega) (by omega) ?_ (fun E a G' u => wk_out0 rfl (u.2.X ((pn1.tr pn2).tr pn3) (by rw [u.1])))
    rintro v G5 ⟨X', S', rfl, rfl, y1, y2⟩
    refine blX3_implied_35 (wk_cb (by omega) fun hcb => blX3_implied_39 ⟨e2 + 1, c2, S', X', rfl, rfl, y1, ((pn1.tr pn2).tr pn3).tr y2, hcb.mono (by omega)⟩)
  · rw [if_neg hk] at hr
    refine blX3_implied_18 (fun _ => ?_) (fun u => absurd rfl u)
    refine wk_bk hA hB cb.rf (u := 0) (r' := 20 * (rz_n q.1 - c1) + 20) (by omega) ?_
    refine blX3_implied_38 (wk_cb (by omega) fun hcb => blX3_implied_39 ⟨e1, c1, S1, X1, (Option.some.inj hr).symm, rfl, hp1, pn1, hcb.mono (by omega)⟩)
theorem X3_cmp_W {d c lo D : Nat} {S : MS} {X : Nat → Nat} {G : GH} {r : PE} (ih : xq_IH q rec) (h : xq_pre q lo c S X G) (hd : d ≤ 40) (hr : pp_cmp (rz_T q.1) (rz_n q.1) rec d c S = some r) (hD : 20 * (42 - d) + 60 - 6 ≤ D) : wk_C q.1.1 mX3_compared D (20 * (rz_n q.1 - c) + 20) [vR (some q.1.2.1), vI (nI d)] G (xq_N q lo c S X G r) (xq_X q G r) := by
  have hp := h.1
  have k1 := hp.1.1.1.1
  refine wk_C_of (by decide) rfl (Nat.le_of_ble_eq_true rfl) ?_
  unfold pp_cmp at hr
  obtain ⟨r1, h1, hx1, hr⟩ := pr_b_some hr
  refine wk_have fun hA hB => ?_
  refine blX3_compared_0 k1 (ih.1 7 d c lo S X _ r1 (20 * (42 - d) + 60 - 7) (by decide) h (Or.inl hd) h1 (Nat.le_refl _)) (by show _ ≤ D; omega) (by omega) ?_ (fun E a G' u => wk_out0 rfl (u.up (pin.id0 (S := S) (X := X)) hx1))
  rintro v G2 ⟨e1, c1, S1, X1, he1, rfl, hp1, pn1, hb1⟩
  have hr := hr _ _ _ he1
  obtain ⟨hx1', hR1, g1, g2, g3, g4, g5, g6, g7, g8, g9⟩ := xq_R ih.2.2 h1 he1 (by omega) h hp1 (fun u => absurd u (by omega))
  have kR := hp1.1.1.1.1
  refine wk_bk hA hB hb1 (r' := 20 * (rz_n q.1 - c1) + 20) (by omega) ?_
  have sg : ∀ k, k ∈ zg_L → (hp_r G2 q.1.2.1 6 = zg q.1.1 k ↔ lx_kind (rz_T q.1) (rz_n q.1) c1 = k) := fun k hk => hp1.1.sign hk
  have go : ∀ kk : Int32, pr_cmp (lx_kind (rz_T q.1) (rz_n q.1) c1) = kk → 7 ≤ kk ∧ kk ≤ 21 → xo kk ≠ -1 → wk_V q.1.1 mX3_compared (D, 20 * (rz_n q.1 - c) + 20, xq_N q lo c S X G r, xq_X q G r, hp_cs G, hp_ss G) 96 [(0, vR (some q.1.2.1)), (1, vI (nI d)), (2, vR (some (X1 e1)))] [vI (xo kk)] G2 (20 * (rz_n q.1 - c1) + 20) := by
    intro kk hkk hk7 hne
    have hk0 : kk ≠ 0 := fun u => by rw [u] at hk7; exact absurd hk7.1 (by decide)
    rw [hkk, if_neg hk0] at hr
    obtain ⟨tk1, tk2⟩ := lx_tk (T := rz_T q.1) (n := rz_n q.1) (c := c1) (pr_cmp_ok (by rw [hkk]; exact hk0)).1
    obtain ⟨r2, h2, hx2, hr⟩ := pr_b_some hr
    refine blX3_compared_96 (fun _ => ?_) (fun u => absurd u hne)
    refine blX3_compared_104 kR (X3_scan_A (d := 7) hp1.1 (Nat.le_refl 7)) (by show _ ≤ D; omega) (by omega) ?_ (fun _ _ _ u => absurd u id)
    rintro v G3 ⟨rfl, t1, t2⟩
    obtain ⟨hp2, pn2⟩ := hp1.scan t1 t2
    refine wk_have fun hA hB => ?_
    refine blX3_compared_108 hp2.1.1.1.1 (ih.1 7 d _ lo S1 X1 G3 r2 (20 * (42 - d) + 60 - 7) (by decide) (hx1'.tok hp2 (by omega)) (Or.inl hd) h2 (Nat.le_refl _)) (by show _ ≤ D; omega) (by omega) ?_ (fun E a G' u => wk_out0 rfl (u.up (pn1.tr pn2) hx2))
    rintro v G4 ⟨e2, c2, S2, X2, he2, rfl, hp3, pn3, hb3⟩
    have hr := hr _ _ _ he2
    obtain ⟨hx2', hR2, f1, f2, f3, f4, f5, f6, f7, f8, f9⟩ := xq_R ih.2.2 h2 he2 (by omega) (hx1'.tok hp2 (by omega)) hp3 (fun u => absurd u (by omega))
    rw [g2] at hR2 f3 f6
    have hlo := h.2.2.1
    refine wk_bk hA hB hb3 (r' := 20 * (rz_n q.1 - c2) + 20 + 10) (by omega) ?_
    refine blX3_compared_116 rfl hp3.1.1.1.1 (X3_two_A (D := 8) (kind := kk) (hx1'.tok hp2 (by omega)) g2 (by omega) hx2' hR2 f2 (by omega) hk7 hr (pn3.2.2.1 _ (by omega)) (Nat.le_refl 8)) (by show _ ≤ D; omega) (by omega) ?_ (fun E a G' u => wk_out0 rfl (u.2.X ((pn1.tr pn2).tr pn3) (by rw [u.1])))
    rintro v G5 ⟨X', S', rfl, rfl, y1, y2⟩
    exact wk_cb (by omega) fun hcb => blX3_compared_119 ⟨e2 + 1, c2, S', X', rfl, rfl, y1, ((pn1.tr pn2).tr pn3).tr y2, hcb.mono (by omega)⟩
  refine blX3_compared_5 kR (fun u1 => ?_) (fun u => ?_)
  · refine blX3_compared_21 kR (fun u2 => ?_) (fun u => ?_)
    · refine blX3_compared_36 kR (fun u3 => ?_) (fun u => ?_)
      · refine blX3_compared_50 kR (fun u4 => ?_) (fun u => ?_)
        · refine blX3_compared_65 kR (fun u5 => ?_) (fun u => ?_)
          · refine blX3_compared_80 kR (fun u6 => ?_) (fun u => ?_)
            · have e0 : pr_cmp (lx_kind (rz_T q.1) (rz_n q.1) c1) = 0 := by
                unfold pr_cmp
                rw [if_neg (fun v => u1 ((sg 61 (by decide)).2 v)), if_neg (fun v => u2 ((sg 300 (by decide)).2 v)), if_neg (fun v => u3 ((sg 60 (by decide)).2 v)), if_neg (fun v => u4 ((sg 301 (by decide)).2 v)), if_neg (fun v => u5 ((sg 62 (by decide)).2 v)), if_neg (fun v => u6 ((sg 302 (by decide)).2 v))]
              rw [if_pos e0] at hr
              refine blX3_compared_95 (blX3_compared_96 (fun u => absurd rfl u) (fun _ => ?_))
              exact wk_cb (by omega) fun hcb => blX3_compared_102 ⟨e1, c1, S1, X1, (Option.some.inj hr).symm, rfl, hp1, pn1, hcb.mono (by omega)⟩
            · exact blX3_compared_90 (go 16 (by rw [(sg 302 (by decide)).1 u]; rfl) (by decide) (by decide))
          · exact blX3_compared_75 (go 15 (by rw [(sg 62 (by decide)).1 u]; rfl) (by decide) (by decide))
        · exact blX3_compared_60 (go 14 (by rw [(sg 301 (by decide)).1 u]; rfl) (by decide) (by decide))
      · exact blX3_compared_46 (go 13 (by rw [(sg 60 (by decide)).1 u]; rfl) (by decide) (by decide))
    · exact blX3_compared_31 (go 12 (by rw [(sg 300 (by decide)).1 u]; rfl) (by decide) (by decide))
  · exact blX3_compared_16 (go 11 (by rw [(sg 61 (by decide)).1 u]; rfl) (by decide) (by decide))
end
