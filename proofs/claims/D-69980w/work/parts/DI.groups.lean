/-! THE COMPONENT's PARSER: groups; constructors of Node and Equation -/
set_option maxRecDepth 100000
/-- what groups leave, all told -/
def gO (q : PZ) (c : Nat) (S : MS) (kd : Int32) (G00 G : GH) (Lv hv c' : Nat) (S' : MS) (q' : PZ) (cv' : Nat) (G' : GH) : Prop := qx (pr_v S) q q' ∧ (∀ j, pr_v S ≤ j → j < pr_v S' → qK q' j = kd) ∧ rat q'.1 c' G' ∧ env q' S' (pr_v S') G' ∧ nvs q' S' (pr_v S') G00 G' Lv hv cv' ∧ (rx q'.1 no9 G00 G' ∧ rkk q'.1 G00 G') ∧ (rx q'.1 (gow G Lv hv) G G' ∧ hp_r G' (qn q') = hp_r G (qn q') ∧ hp_i G' (qn q') = hp_i G (qn q')) ∧ cb (20 * (c' - c) + (wvn (pr_v S' - pr_a S') - wvn (pr_v S - pr_a S))) G G'
section
variable {q q1 q2 : PZ} {S S1 S2 : MS} {G G1 G2 G00 : GH} {Lv hv c c1 c2 cv1 cv2 : Nat} {kd : Int32}
theorem gO.pst {X : Nat → Nat} (h : gO q c S kd G00 G Lv hv c1 S1 q1 cv1 G1) (hT : S1.2 0 = rz_T q1.1) : pst q1 (pr_p S1) c1 S1 X G1 ∧ pin q1 S1 X G00 S1 X G1 :=
  ⟨⟨h.2.2.1, h.2.2.2.1, fun e a b => by omega, hT⟩, pe_same.rf, Nat.le_refl _, fun _ _ => rfl, fun j a b => absurd b (by omega), h.2.2.2.2.2.1.1, h.2.2.2.2.2.1.2⟩
theorem gO.tr (h : gO q c S kd G00 G Lv hv c1 S1 q1 cv1 G1) (h2 : gO q1 c1 S1 kd G00 G1 Lv hv c2 S2 q2 cv2 G2) (hv1 : pr_v S ≤ pr_v S1) (hv2 : pr_v S1 ≤ pr_v S2) (ha : pr_a S1 = pr_a S ∧ pr_a S2 = pr_a S) (hc1 : c ≤ c1) (hc2 : c1 ≤ c2) : gO q c S kd G00 G Lv hv c2 S2 q2 cv2 G2 := by
  obtain ⟨a1, a2, a3, a4, a5, a6, ⟨a7, a8, a9⟩, a10⟩ := h
  obtain ⟨b1, b2, b3, b4, b5, b6, ⟨b7, b8, b9⟩, b10⟩ := h2
  have e1 : q2.1 = q1.1 := b1.1
  have en : qn q2 = qn q1 := by show q2.2.2.2.1 = q1.2.2.2.1; rw [b1.2.2]
  refine ⟨a1.tr b1 hv1, fun j h1 h2 => ?_, b3, b4, b5, b6, ⟨?_, by rw [b8, en]; exact a8, by rw [b9, en]; exact a9⟩, (a10.tr b10).mono ?_⟩
  · rcases Nat.lt_or_ge j (pr_v S1) with u | u
    · rw [(b1.2.1 j u).2]; exact a2 j h1 u
    · exact b2 j u h2
  · rw [e1] at b7 ⊢
    exact a7.tr b7 (fun y hy u => gow.back a7.1 hy u)
  · have w1 := wvn_le (show pr_v S - pr_a S ≤ pr_v S1 - pr_a S1 by omega)
    have w2 := wvn_le (show pr_v S1 - pr_a S1 ≤ pr_v S2 - pr_a S2 by omega)
    omega
end
/-- what groups leaves: behind it stands no ';' -/
def gsP (q : PZ) (c : Nat) (S : MS) (kd : Int32) (G00 G : GH) (Lv hv : Nat) (r : PE) (v : Option WV) (G' : GH) : Prop := v = none ∧ ∃ c' S' q' cv', (if lx_kind (rz_T q.1) (rz_n q.1) c' = 41 then pr_ok 0 (lx_next (rz_T q.1) (rz_n q.1) c') S' else pr_er 1 c') = some r ∧ (c + 1 ≤ c' ∧ pg_same (pr_v S) S S' ∧ pr_v S < pr_v S' ∧ pg_I (rz_n q.1) c' S' ∧ gx S') ∧ gO q c S kd G00 G Lv hv c' S' q' cv' G'
section
variable {q : PZ} {S : MS} {X : Nat → Nat} {G G00 : GH} {lo : Nat}
theorem X3_groups_C {D c f f0 hN Lv hv cv : Nat} {x2 : Option Nat} {kd : Int32} {r : PE} {M : Nat} (hM : ∀ m, m ≤ 99 → pr_a S + m ≤ rz_n q.1 → m ≤ M) (hcmp : cmp_o q.1.1) (hD : 30 ≤ D) (hp : pst q lo c S X G) (hlo : lo = pr_p S) (hI : pg_I (rz_n q.1) c S) (hg : gx S) (pn : pin q S X G00 S X G) (hsn : sn G00) (hnv : nvs q S (pr_v S) G00 G Lv hv cv) (hhN : hp_r G00 q.1.2.1 9 = some hN) (hhN2 : hp_kd G00 hN ≠ 0) (hkd : kd = 0 ∨ kd = 1)
    (h : (pr_b (pg_group (rz_T q.1) (rz_n q.1) f0 false c S) fun _ c1 S1 => pg_more (rz_T q.1) (rz_n q.1) f0 f c1 S1) = some r) : wk_C q.1.1 mX3_groups D (20 * (rz_n q.1 - c) + 40 + (wvn M - wvn (pr_v S - pr_a S))) [vR (some q.1.2.1), vI kd, vR x2] G (gsP q c S kd G00 G Lv hv r) (xq_X q G00 r) := by
  have hT0 := hp.2.2.2
  have hdec : decide (kd = 2) = false := by rcases hkd with rfl | rfl <;> rfl
  refine wk_C_of (by decide) rfl (by rcases hkd with rfl | rfl <;> cases x2 <;> exact Nat.le_of_ble_eq_true rfl) ?_
  refine wk_sub [(0, vR (some q.1.2.1)), (1, vI kd)] ⟨rfl, rfl, trivial⟩ ?_
  have main : ∀ f q1 S1 G1 c1 cv1 r1, (pr_b (pg_group (rz_T q.1) (rz_n q.1) f0 false c1 S1) fun _ c2 S2 => pg_more (rz_T q.1) (rz_n q.1) f0 f c2 S2) = some r → q1.1 = q.1 → pr_a S1 = pr_a S → pst q1 (pr_p S1) c1 S1 X G1 → pin q1 S1 X G00 S1 X G1 → pg_I (rz_n q.1) c1 S1 → gx S1 → nvs q1 S1 (pr_v S1) G00 G1 Lv hv cv1 →
      (∀ c2 S2 q2 cv2 G2, c1 ≤ c2 → pr_v S1 ≤ pr_v S2 → pr_a S2 = pr_a S1 → gO q1 c1 S1 kd G00 G1 Lv hv c2 S2 q2 cv2 G2 → pg_same (pr_v S1) S1 S2 → pr_v S1 < pr_v S2 → gO q c S kd G00 G Lv hv c2 S2 q2 cv2 G2 ∧ c ≤ c1 ∧ pg_same (pr_v S) S S2 ∧ pr_v S < pr_v S2) → 20 * (rz_n q.1 - c1) + 40 + (wvn M - wvn (pr_v S1 - pr_a S1)) ≤ r1 →
      wk_V q.1.1 mX3_groups (D, 20 * (rz_n q.1 - c) + 40 + (wvn M - wvn (pr_v S - pr_a S)), gsP q c S kd G00 G Lv hv r, xq_X q G00 r, hp_cs G, hp_ss G) 0 [(0, vR (some q.1.2.1)), (1, vI kd)] [] G1 r1 := by
    intro f
    induction f with
    | zero =>
      intro q1 S1 G1 c1 cv1 r1 h hq haS hp1 pn1 hI1 hg1 hnv1 hto hr1
      -- no fuel: the group's own end
      obtain ⟨r2, h2, hx2, h⟩ := pr_b_some h
      have ew : q1.1 = q.1 := hq
      have hM1 : ∀ m, m ≤ 99 → pr_a S1 + m ≤ rz_n q1.1 → m ≤ M := fun m a b => hM m a (by rw [← haS, ← hq]; exact b)
      have hgC := X3_group_C (D := 29) (q := q1) (kd := kd) (r := r2) (f := f0) (X := X) (M := M) hM1 (by rw [ew]; exact hcmp) (Nat.le_refl 29) hp1 rfl (by rw [ew]; exact hI1) hg1 pn1 hsn hnv1 (by rw [ew]; exact hhN) hhN2 (hkd.imp id Or.inl) (by rw [ew, hdec]; exact h2)
      rw [ew] at hgC
      refine wk_less hr1 ?_
      refine blX3_groups_0 (by rw [← ew]; exact hp1.1.1.1.1) hgC (by show 29 + 1 ≤ D; omega) (Nat.le_refl _) ?_ (fun E a G' u => wk_out0 rfl ?_)
      · rintro v G2 ⟨rfl, c2, S2, q2, cv2, he2, -⟩
        have := h _ _ _ he2
        cases this
      · obtain ⟨k, c', e, h3⟩ := u
        rw [ew] at h3
        exact ⟨k, c', hx2 _ e, h3⟩
    | succ f ih =>
      intro q1 S1 G1 c1 cv1 r1 h hq haS hp1 pn1 hI1 hg1 hnv1 hto hr1
      obtain ⟨r2, h2, hx2, h⟩ := pr_b_some h
      have ew : q1.1 = q.1 := hq
      have hM1 : ∀ m, m ≤ 99 → pr_a S1 + m ≤ rz_n q1.1 → m ≤ M := fun m a b => hM m a (by rw [← haS, ← hq]; exact b)
      have hgC := X3_group_C (D := 29) (q := q1) (kd := kd) (r := r2) (f := f0) (X := X) (M := M) hM1 (by rw [ew]; exact hcmp) (Nat.le_refl 29) hp1 rfl (by rw [ew]; exact hI1) hg1 pn1 hsn hnv1 (by rw [ew]; exact hhN) hhN2 (hkd.imp id Or.inl) (by rw [ew, hdec]; exact h2)
      rw [ew] at hgC
      refine wk_less hr1 ?_
      refine wk_have fun hA hB => ?_
      refine blX3_groups_0 (by rw [← ew]; exact hp1.1.1.1.1) hgC (by show 29 + 1 ≤ D; omega) (Nat.le_refl _) ?_ (fun E a G' u => wk_out0 rfl ?_)
      · rintro v G2 ⟨rfl, c2, S2, q2, cv2, he2, hO⟩
        have hh := h _ _ _ he2
        clear h
        subst he2
        have hT1 : S1.2 0 = rz_T q.1 := by rw [← ew]; exact hp1.2.2.2
        obtain ⟨-, a2, a3, a4, a5⟩ := pg_group_ok h2 hI1 hT1
        have ag := pg_group_gx h2 hI1 hT1 hg1
        have eq2 : q2.1 = q.1 := hO.1.1.trans ew
        have hT2 : S2.2 0 = rz_T q2.1 := by rw [eq2, a4.T]; exact hT1
        obtain ⟨hp2, pn2⟩ := gO.pst (X := X) hO hT2
        have hc2n := a2.2.2.1
        have w99 : wvn (pr_v S2 - pr_a S2) ≤ wvn M := wvn_le (hM _ (by have := ag.1; omega) (by have := a4.a; have := a2.2.1; have := a2.1.N.2.2.2.2.2.1; omega))
        have w12 : wvn (pr_v S1 - pr_a S1) ≤ wvn (pr_v S2 - pr_a S2) := wvn_le (by have := a4.a; omega)
        obtain ⟨o1, o2, o3, o4⟩ := hto c2 S2 q2 cv2 G2 (by omega) (by omega) a4.a hO a4 a5
        refine wk_bk hA hB hO.2.2.2.2.2.2.2 (r' := 20 * (rz_n q.1 - c2) + 40 + (wvn M - wvn (pr_v S2 - pr_a S2))) (by omega) ?_
        refine wk_have fun hA hB => ?_
        refine blX3_groups_5 (by rw [← eq2]; exact hp2.1.1.1.1) (by have := (X3_skip_C (k := 59) (d := 8) hp2.1 (by decide) (Nat.le_refl 8)).used; rw [eq2] at this; exact this) (by show 8 + 1 ≤ D; omega) (by omega) ?_ (fun _ _ _ u => absurd (And.left u) id)
        unfold pg_more at hh
        rintro v G3 ⟨(⟨hq3, rfl, t1, t2⟩ | ⟨hq3, rfl, rfl⟩), hcb3⟩
        · rw [if_pos hq3] at hh
          obtain ⟨tk1, tk2⟩ := lx_tk (T := rz_T q.1) (n := rz_n q.1) (c := c2) (by rw [hq3]; decide)
          have hsc : pst q2 (pr_p S2) (lx_next (rz_T q.1) (rz_n q.1) c2) S2 X G3 ∧ pin q2 S2 X G2 S2 X G3 := hp2.scan (by rw [eq2]; exact t1) (by rw [eq2]; exact t2)
          obtain ⟨hp3, pn3⟩ := hsc
          have hR2 := hp2.1.1.1.1
          have hB2 := hp2.1.1.2.1.1
          have kn := hp2.2.1.2.1.1
          have hol := pn3.2.2.2.2.1.old hR2 hB2 (x := qn q2) (by rw [kn]; decide) (fun u => u) (by rw [kn]; decide)
          have hnv3 : nvs q2 S2 (pr_v S2) G00 G3 Lv hv cv2 := by
            obtain ⟨n1, n2, n3, n4, n5⟩ := hO.2.2.2.2.1
            have kL := n5.1.1
            refine ⟨by rw [hol.2.1]; exact n1, by rw [hol.2.1]; exact n2, n3, n4.cg (pn3.2.2.2.2.1.1.lg (by rw [kL]; decide)), n5.fr pn3.2.2.2.2.1.1 ?_ (fun y _ hy => ?_)⟩
            · rintro (u | u | u | u)
              · exact u
              · rw [u, hR2] at kL; cases kL
              · rw [u, hB2] at kL; cases kL
              · rw [u] at kL; cases kL
            · rintro (u | u | u | u)
              · exact u
              · rw [u, hR2] at hy; cases hy
              · rw [u, hB2] at hy; cases hy
              · rw [u] at hy; cases hy
          refine blX3_groups_12 (fun _ => ?_) (fun u => absurd u (by decide))
          refine ih q2 S2 G3 _ cv2 _ hh eq2 (a4.a.trans haS) hp3 (pn2.tr pn3) ⟨a2.1, by have := a2.2.1; omega, tk2, a2.2.2.2⟩ ag hnv3 (fun c4 S4 q4 cv4 G4 b1 b2 b3 b4 b5 b6 => ?_) (by omega)
          -- the scan in between
          have hO3 : gO q1 c1 S1 kd G00 G1 Lv hv c4 S4 q4 cv4 G4 := by
            obtain ⟨d1, d2, d3, d4, d5, d6, ⟨d7, d8, d9⟩, d10⟩ := b4
            obtain ⟨g1, g2, g3, g4, g5, g6, ⟨g7, g8, g9⟩, g10⟩ := hO
            have e4 : q4.1 = q2.1 := d1.1
            have en4 : qn q4 = qn q2 := by show q4.2.2.2.1 = q2.2.2.2.1; rw [d1.2.2]
            have w4 : wvn (pr_v S2 - pr_a S2) ≤ wvn (pr_v S4 - pr_a S4) := wvn_le (by omega)
            have rx23 : rx q2.1 (gow G1 Lv hv) G1 G3 := g7.tr pn3.2.2.2.2.1 (fun y _ u => u.elim)
            refine ⟨g1.tr d1 (by have := a4.a; omega), fun j h1 h2 => ?_, d3, d4, d5, d6, ⟨?_, by rw [d8, en4, hol.2.1]; exact g8, by rw [d9, en4, hol.1]; exact g9⟩, ?_⟩
            · rcases Nat.lt_or_ge j (pr_v S2) with u | u
              · rw [(d1.2.1 j u).2]; exact g2 j h1 u
              · exact d2 j u h2
            · rw [e4] at d7 ⊢
              exact rx23.tr d7 (fun y hy u => gow.back rx23.1 hy u)
            · exact ((g10.tr hcb3).tr d10).mono (by omega)
          exact ⟨(hto c4 S4 q4 cv4 G4 (by omega) (by omega) (b3.trans a4.a) hO3 (a4.tr b5 (by omega)) (by omega)).1, by omega, (hto c4 S4 q4 cv4 G4 (by omega) (by omega) (b3.trans a4.a) hO3 (a4.tr b5 (by omega)) (by omega)).2.2⟩
        · rw [if_neg hq3] at hh
          refine blX3_groups_12 (fun u => absurd rfl u) (fun _ => ?_)
          refine wk_bk hA hB cb.rf (u := 0) (r' := 20 * (rz_n q.1 - c2) + 40 + (wvn M - wvn (pr_v S2 - pr_a S2))) (by omega) ?_
          exact blX3_groups_15 ⟨rfl, c2, S2, q2, cv2, hh, ⟨by omega, o3, o4, a2, ag⟩, o1⟩
      · obtain ⟨k, c', e, h3⟩ := u
        rw [ew] at h3
        exact ⟨k, c', hx2 _ e, h3⟩
  subst hlo
  exact main f q S G c cv _ h rfl rfl hp pn hI hg hnv (fun c2 S2 q2 cv2 G2 b1 b2 b3 b4 b5 b6 => ⟨b4, Nat.le_refl _, b5, b6⟩) (Nat.le_refl _)
end
