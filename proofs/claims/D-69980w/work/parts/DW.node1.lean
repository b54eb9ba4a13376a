/-! THE COMPONENT's PARSER: a node, up to its end -/
set_option maxRecDepth 100000
/-- another node is read -/
abbrev qT (q : PZ) (t : Nat) : PZ := (q.1, q.2.1, q.2.2.1, t, q.2.2.2.2)
section
variable {q : PZ} {S S' : MS} {X : Nat → Nat} {G G' : GH} {c c' Ln cn hN : Nat}
theorem X3_node_st {f D B cs ss A r2 : Nat} {P : Option WV → GH → Prop} {r : PE} (hcmp : cmp_o q.1.1) (hD : 902 ≤ D) (hsn : sn G) (hI : nd_I (rz_n q.1) c S) (h0 : nsI q c S G Ln cn hN) (h : nd (rz_T q.1) (rz_n q.1) f c S = some r)
    (K : ∀ t vk c5 S5 G1 c1 c6 S6 X6 Mf Q G6 ce Lv hv cv Le Lc Lm Lr i o r6, (∃ e, nd_hd (rz_T q.1) (rz_n q.1) f (lx_next (rz_T q.1) (rz_n q.1) (lx_next (rz_T q.1) (rz_n q.1) c)) (nd_0 S (lx_next (rz_T q.1) (rz_n q.1) c) (lx_end (rz_T q.1) (rz_n q.1) (lx_next (rz_T q.1) (rz_n q.1) c))) = some (.inr (e, c5, S5))) → lx_isW (rz_T q.1) (rz_n q.1) c5 "let" → nd_en (rz_T q.1) (rz_n q.1) (pr_k S5) c6 S6 = some r → (∃ e, pe_eqs (rz_T q.1) (rz_n q.1) f f c1 (nd_3 S5) = some (.inr (e, c6, S6))) → c1 = lx_next (rz_T q.1) (rz_n q.1) c5 → hp_kd G t = 0 → hp_A q.1.1 t → nd_M (rz_n q.1) (lx_next (rz_T q.1) (rz_n q.1) c5) (pr_v S) (pr_k S) (pr_N S) (nd_3 S5) →
      hdI (qT q t) vk c1 S5 G G1 Lv hv cv Le Lc Lm Lr (wd (rz_T q.1) (lx_next (rz_T q.1) (rz_n q.1) c) (lx_end (rz_T q.1) (rz_n q.1) (lx_next (rz_T q.1) (rz_n q.1) c))) → hdF (qT q t) vk S5 G1 i o → eqI (qVK (qT q t) vk) Mf Q (pr_p S5) (pr_k S5) c6 (nd_3 S5) S6 X6 G G1 G6 Le ce → 22 * (rz_n q.1 - c6) + 30 + (A + (wvn (min 99 (rz_n q.1 - pr_v S)) - wvn (pr_v S5 - pr_a S5)) + 2 * c1) ≤ r6 → wk_V q.1.1 mX3_node (D, B, P, xq_X q G r, cs, ss) 250 [(0, vR (some q.1.2.1))] [] G6 r6)
    (hr2 : 20 * (rz_n q.1 - c) + 60 + wvn (min 99 (rz_n q.1 - pr_v S)) + (2 * rz_n q.1 + 20 + A) ≤ r2) : wk_V q.1.1 mX3_node (D, B, P, xq_X q G r, cs, ss) 0 [(0, vR (some q.1.2.1))] [] G r2 := by
  have hR := h0.1.1.1.1
  have hRA := h0.1.1.1.2.1
  have hcn := h0.1.2.1
  obtain ⟨hJ, hab, j1, j2, j3, j4, j5, j6, j7, j8, j9, j10⟩ := id hI
  obtain ⟨v1, v2, v3, v4, v5, v6, v7, v8, v9⟩ := hJ.1.N
  refine wk_less hr2 ?_
  unfold nd at h
  refine blX3_node_0 hR (X3_is_C (tx := "node") (d := 2) h0.1 h0.2.1.1 (by simp [lx_words]) (Nat.le_refl 2)) (by show 2 + 1 ≤ D; omega) (Nat.zero_le _) ?_ (fun _ _ _ u => absurd u id)
  rintro v G0 ⟨rfl, rfl⟩
  refine blX3_node_6 (fun u => ?_) (fun u => ?_)
  · have hq := lx_b1 u
    rw [if_pos hq] at h
    obtain ⟨tk1, tk2⟩ := lx_tkw (T := rz_T q.1) (n := rz_n q.1) (c := c) hq
    refine blX3_node_14 hR h0.2.2.2.1.1.1 h0.2.2.2.1.2.1.1 (J5_size_C (d := 0) h0.2.2.2.1.2) (by show 0 + 1 ≤ D; omega) (Nat.zero_le _) ?_ (fun _ _ _ u => absurd u id)
    rintro v G0 ⟨rfl, rfl⟩
    have e59 : nI (pr_N S) = 59 ↔ pr_N S = 59 := nI_eq (b := 59) (by omega) (by decide)
    refine blX3_node_21 (fun u => ?_) (fun u => ?_)
    · rw [if_neg (fun w => u (e59.2 w))] at h
      refine blX3_node_36 hR (X3_scan_A (d := 7) h0.1 (Nat.le_refl 7)) (by show 7 + 1 ≤ D; omega) (by omega) ?_ (fun _ _ _ u => absurd u id)
      rintro v G1 ⟨rfl, t1, t2⟩
      obtain ⟨h1, f1, k1⟩ := h0.scan t1 t2
      have hc1 : c ≤ lx_next (rz_T q.1) (rz_n q.1) c := by omega
      refine blX3_node_40 h1.1.1.1.1 (X3_isName_C (d := 5) h1.1 h1.2.1.1 (Nat.le_refl 5)) (by show 5 + 1 ≤ D; omega) (Nat.zero_le _) ?_ (fun _ _ _ u => absurd u id)
      rintro v G2 ⟨rfl, t3, t4⟩
      obtain ⟨h2, f2', k2'⟩ := h1.scan t3 t4
      have f2 : rx q.1 no9 G0 G2 := f1.tr f2' (fun _ _ u => u)
      have k2 : rkk q.1 G0 G2 := fun k hk => (k2' k hk).trans (k1 k hk)
      refine blX3_node_44 (fun u => ?_) (fun u => ?_)
      · have hnm := lx_b1 u
        rw [if_pos hnm] at h
        obtain ⟨tk3, tk4⟩ := lx_tkn (T := rz_T q.1) (n := rz_n q.1) (c := lx_next (rz_T q.1) (rz_n q.1) c) hnm
        obtain ⟨wa, wa1, wa2⟩ := h2.1.2.2.2.2.2.1 hnm.1
        refine blX3_node_52 h2.1.1.1.1 h2.2.2.2.2.1.1 h2.2.2.2.2.1.2.1.1 (by rw [wa1]; exact X3_get0 (d := 25) h2.1 wa2 h2.2.2.2.2.1.2 hcmp (Nat.le_refl 25)) (by show 25 + 1 ≤ D; omega) (Nat.zero_le _) ?_ (fun _ _ _ u => absurd u id)
        rintro v G3 ⟨rfl, t5, t6⟩
        obtain ⟨h3, f3', k3'⟩ := h2.scan t5 t6
        have f3 : rx q.1 no9 G0 G3 := f2.tr f3' (fun _ _ u => u)
        have k3 : rkk q.1 G0 G3 := fun k hk => (k3' k hk).trans (k2 k hk)
        rw [mpf_n h0.2.2.1 hnm.1 j3]
        by_cases hfn : pr_fn (rz_n q.1) S (lx_next (rz_T q.1) (rz_n q.1) c) < pr_N S
        · rw [if_pos hfn] at h ⊢
          refine blX3_node_63 (fun w => by cases w) (fun o9 _ => ?_)
          refine blX3_node_66 h3.1.1.1.1 (by rw [h3.1.2.2.1]; exact X3_fail_C (d := 0) h3.1.1) (by show 0 + 1 ≤ D; omega) (Nat.zero_le _) ?_ (fun _ _ _ u => absurd u id)
          rintro v G4 ⟨rfl, y1, y2⟩
          refine blX3_node_75 rfl (by rw [y2]; decide) (by rw [y2]; decide) (wk_out0 rfl ⟨2, _, (Option.some.inj h).symm, ?_⟩)
          rw [y2]
          exact y1.of f3 k3 (fun _ _ u => u)
        · rw [if_neg hfn] at h ⊢
          refine blX3_node_63 (fun _ => ?_) (fun o9 w => by cases w)
          refine blX3_node_76 (by omega) (fun t ht hA => ?_)
          have kt1 : hp_kd (hp_nw G3 t 8 0) t = 8 := by rw [hp_kd_nw, if_pos rfl]
          have hR3 := h3.1.1.1.1
          have nRt : ¬ q.1.2.1 = t := fun u => by rw [← u, hR3] at ht; cases ht
          have fw : cf (fun _ => False) G3 (hp_nw G3 t 8 0) := cf.rf.nw ht
          refine blX3_node_80 rfl (X7_init_C (d := 4) kt1 hA (h3.2.1.2.1.fr fw) (Nat.le_refl 4)) (by show 4 + 1 ≤ D; omega) (by omega) ?_ (fun _ _ _ u => absurd u id)
          rintro v G4 ⟨rfl, hP⟩
          have f4 : cf (fun y => y = t) (hp_nw G3 t 8 0) G4 := by obtain ⟨-, -, -, -, -, -, -, -, -, -, z, -⟩ := hP; exact z
          have kt4 : hp_kd G4 t = 8 := f4.k kt1 (by decide)
          have kR4 : hp_kd G4 q.1.2.1 = 12 := f4.k (fw.k hR3 (by decide)) (by decide)
          obtain ⟨H, eH, Lv, hv, Le, Lc, Lm, Lr, n1, n2, n3, ⟨n4, n5, n6, n7, n8⟩, n9, n10, n11, n12, -, -⟩ := nd_new (n := rz_n q.1) h3 hI rfl hc1 ht hA hP hnm.1
          refine blX3_node_84 rfl kR4 hRA kR4 (by rw [hp_r_sR, if_pos rfl, if_pos rfl]) kt4 hA ?_
          rw [← eH]
          clear eH
          obtain ⟨hpg, hea, -⟩ := nd_A (T := rz_T q.1) hI hc1 tk2
          have fH : rx q.1 no9 G0 H := f3.tr n11 (fun _ _ u => u)
          have kH : rkk q.1 G0 H := fun k hk => (n12 k hk).trans (k3 k hk)
          have ht0 : hp_kd G0 t = 0 := f3.1.fresh ht
          have fr0 : ∀ {y}, hp_kd G3 y = 0 → hp_kd G0 y = 0 := fun u => f3.1.fresh u
          have hh : hdI (qT q t) q.2.1 (lx_next (rz_T q.1) (rz_n q.1) c) (nd_0 S (lx_next (rz_T q.1) (rz_n q.1) c) (lx_end (rz_T q.1) (rz_n q.1) (lx_next (rz_T q.1) (rz_n q.1) c))) G0 H Lv hv 0 Le Lc Lm Lr (wd (rz_T q.1) (lx_next (rz_T q.1) (rz_n q.1) c) (lx_end (rz_T q.1) (rz_n q.1) (lx_next (rz_T q.1) (rz_n q.1) c))) := by
            obtain ⟨m1, m2, ⟨m3, m4, m5⟩, m6, m7⟩ := n3
            refine ⟨n1, n2, ⟨m1, m2, ⟨fr0 m3, fr0 m4, ht0, fun j u1 u2 => by rw [hea] at u1; exact absurd (show j < pr_v S from u2) (by omega)⟩, m6, m7⟩, ⟨⟨hpg.1, ?_, tk2, j3⟩, ⟨by rw [hea]; show pr_v S ≤ pr_v S + 99; omega, fun v u1 u2 => ?_⟩, ?_⟩, ⟨fH, kH⟩, ⟨⟨n4.1, fr0 n4.2.1, n4.2.2⟩, ⟨n5.1, fr0 n5.2.1, n5.2.2⟩, ⟨n6.1, fr0 n6.2.1, n6.2.2⟩, ⟨n7.1, fr0 n7.2.1, n7.2.2⟩, n8⟩, n9⟩
            · show pr_v S ≤ _; omega
            · rw [hea] at u1; exact absurd (show v < pr_v S from u2) (by omega)
            · funext j
              show (nd_0 S _ _).2 0 j = rz_T q.1 j
              rw [nd_0_2, if_neg (by omega), if_neg (by omega), if_neg (by omega), h0.2.2.1]
          refine blX3_node_98 n1.1.1.1 (X3_scan_A (d := 7) n1 (Nat.le_refl 7)) (by show 7 + 1 ≤ D; omega) (by omega) ?_ (fun _ _ _ u => absurd u id)
          rintro v G5 ⟨rfl, t7, t8⟩
          obtain ⟨hh5, i5⟩ := hh.scan t7 t8 (by omega)
          obtain ⟨rh, hrh, hxh, h⟩ := pr_b_some h
          have hkN : hp_kd G0 hN ≠ 0 := by rw [h0.2.2.2.2.1.2.1.1]; decide
          refine X3_node_hd (q := qT q t) (A := 2 * rz_n q.1 + 20 + A) (M := min 99 (rz_n q.1 - pr_v S)) (fun m a b => by rw [hea] at b; have b' : pr_v S + m ≤ rz_n q.1 := b; omega) hcmp (by omega) hsn h0.2.2.2.2.1.1 hkN hh5 hea (fun k => by rw [i5]; exact n10 k) hrh hxh (fun c5 S5 vk5 G6 cv5 i o r5 e5 hd5 hF5 z1 z2 z3 z4 hr5 => ?_) ?_
          · refine X3_node_vr (q := qT q t) (A := 2 * rz_n q.1 + 20 + A) (M := min 99 (rz_n q.1 - pr_v S)) (fun m a b => by rw [z2, hea] at b; have b' : pr_v S + m ≤ rz_n q.1 := b; omega) hcmp (by omega) hsn h0.2.2.2.2.1.1 hkN hxh (fun c S e w => ?_) hd5 hF5 e5 (fun c7 S7 vk7 G7 cv7 r7 e7 hd7 hF7 w1 w2 w3 hr7 => ?_) hr5
            · have hb := h _ _ _ e
              unfold nd_bd at hb
              rw [if_neg w] at hb
              exact (Option.some.inj hb).symm
            · have hMM : Unit → lx_isW (rz_T q.1) (rz_n q.1) c7 "let" → nd_M (rz_n q.1) (lx_next (rz_T q.1) (rz_n q.1) c7) (pr_v S) (pr_k S) (pr_N S) (nd_3 S7) := fun _ w => (nd_B (f := f) hI h0.2.2.1 hc1 tk2 (by rw [hrh, e7]) w).2.2.2.2
              refine X3_node_bd (q := qT q t) (A := A + (wvn (min 99 (rz_n q.1 - pr_v S)) - wvn (pr_v S7 - pr_a S7))) hcmp hD hsn hd7 hF7 (fun w => ⟨_, _, _, hMM () w⟩) (h _ _ _ e7) (fun c8 G8 c6 S6 X6 Mf Q G9 ce r6 hlet x1 x2 x3 x4 x5 x6 x7 => ?_) (by have h9 : 20 * (rz_n q.1 - c7) + 30 + (wvn (min 99 (rz_n q.1 - pr_v S)) - wvn (pr_v S7 - pr_a S7)) + (2 * rz_n q.1 + 20 + A) ≤ r7 := hr7; show 20 * (rz_n q.1 - c7) + 30 + (2 * rz_n q.1 + 20 + (A + (wvn (min 99 (rz_n q.1 - pr_v S)) - wvn (pr_v S7 - pr_a S7)))) ≤ r7; omega)
              exact K t vk7 c7 S7 G8 c8 c6 S6 X6 Mf Q G9 ce Lv hv cv7 Le Lc Lm Lr i o r6 ⟨0, by rw [hrh, e7]⟩ hlet x1 x2 x3 ht0 hA (hMM () hlet) x4 x5 x6 x7
          · show 20 * (rz_n q.1 - lx_next (rz_T q.1) (rz_n q.1) (lx_next (rz_T q.1) (rz_n q.1) c)) + 40 + (wvn (min 99 (rz_n q.1 - pr_v S)) - wvn _) + (2 * rz_n q.1 + 20 + A) ≤ _
            omega
      · have hnm := lx_b0.1 u
        rw [if_neg hnm] at h
        refine blX3_node_47 h2.1.1.1.1 (X3_misfit_C (d := 1) h2.1 (Nat.le_refl 1)) (by show 1 + 1 ≤ D; omega) (Nat.zero_le _) ?_ (fun _ _ _ u => absurd u id)
        rintro v G4 ⟨rfl, y1, y2⟩
        refine blX3_node_51 rfl (by rw [y2]; decide) (by rw [y2]; decide) (wk_out0 rfl ⟨1, _, (Option.some.inj h).symm, ?_⟩)
        rw [y2]
        exact y1.of f2 k2 (fun _ _ u => u)
    · rw [if_pos (e59.1 u)] at h
      refine blX3_node_26 hR (by rw [h0.1.2.2.1]; exact X3_fail_C (d := 0) h0.1.1) (by show 0 + 1 ≤ D; omega) (Nat.zero_le _) ?_ (fun _ _ _ u => absurd u id)
      rintro v G4 ⟨rfl, y1, y2⟩
      refine blX3_node_35 rfl (by rw [y2]; decide) (by rw [y2]; decide) (wk_out0 rfl ⟨3, _, (Option.some.inj h).symm, ?_⟩)
      rw [y2]
      exact y1
  · rw [if_neg (lx_b0.1 u)] at h
    refine blX3_node_9 hR (X3_misfit_C (d := 1) h0.1 (Nat.le_refl 1)) (by show 1 + 1 ≤ D; omega) (Nat.zero_le _) ?_ (fun _ _ _ u => absurd u id)
    rintro v G4 ⟨rfl, y1, y2⟩
    refine blX3_node_13 rfl (by rw [y2]; decide) (by rw [y2]; decide) (wk_out0 rfl ⟨1, _, (Option.some.inj h).symm, ?_⟩)
    rw [y2]
    exact y1
end
