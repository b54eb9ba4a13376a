/-! THE COMPONENT's PARSER: an equation by a call; equation -/
set_option maxRecDepth 100000
theorem pp_call_need {T : Nat → Int32} {n f d k c : Nat} {S : MS} {r : PE} (h : pp T n f 14 d k [] c S = some r) (hq : ¬ lx_kind T n c = 40) : r = .inl (1, c) := by
  cases f with
  | zero => cases h
  | succ f =>
    have h' : pp_call T n (pp T n f) d k c S = some r := h
    unfold pp_call at h'
    rw [if_neg hq] at h'
    exact (Option.some.inj h').symm
section
variable {q : PZ} {S S' S0 S2 : MS} {X X' X0 : Nat → Nat} {G G' G00 G2 : GH} {lo : Nat}
theorem X3_eq_call {f D c c0 c2 k0 Le ce x L m cap r3 : Nat} {Q : Nat → Nat} {r r1 : PE} (ih : xq_IH q (pp (rz_T q.1) (rz_n q.1) f)) (hcmp : cmp_o q.1.1) (hD : 901 ≤ D) (hp : pst q lo c S X G) (hE : pn_E (rz_n q.1) c S) (hB : S.2 26 (pr_k S) = nI (pr_l S)) (hlo : lo ≤ pr_p S) (hM : ∀ e, pr_p S ≤ e → qM q e = none) (hk0 : k0 ≤ pr_k S) (hW : ∀ k, k0 ≤ k → k < pr_k S → jg_n (S.2 27 k) < pr_p S ∧ jg_n (S.2 26 (k + 1)) ≤ pr_l S) (hL : eqL q Q k0 S X G00 G Le ce) (f00 : rx q.1 no9 G00 G) (k00 : rkk q.1 G00 G)
    (hq : lx_kind (rz_T q.1) (rz_n q.1) c = 40) (hR : pl_R (rz_n q.1) (pe_0 S (pr_k S) c) c0 c2 S2) (hc0 : c + 1 ≤ c0) (hm1 : 1 ≤ m) (hl : pr_l S + m = pr_l S2) (hp2 : pst q lo c2 S2 X G2) (he2 : eqp q S2 G G2 x (nI c) (pr_l S) m cap L) (f2 : rx q.1 no9 G G2) (k2 : rkk q.1 G G2) (hr3 : 20 * (rz_n q.1 - c2) + 20 + al_b (pr_k S - k0) ce ≤ r3)
    (h : (if lx_kind (rz_T q.1) (rz_n q.1) c2 = 41 then
      if lx_kind (rz_T q.1) (rz_n q.1) (lx_next (rz_T q.1) (rz_n q.1) c2) = 61 then
        if ¬ lx_name (rz_T q.1) (rz_n q.1) (lx_next (rz_T q.1) (rz_n q.1) (lx_next (rz_T q.1) (rz_n q.1) c2)) then pr_er 1 (lx_next (rz_T q.1) (rz_n q.1) (lx_next (rz_T q.1) (rz_n q.1) c2))
        else if pr_fn (rz_n q.1) S2 (lx_next (rz_T q.1) (rz_n q.1) (lx_next (rz_T q.1) (rz_n q.1) c2)) < pr_N S2 then
          pr_b (pp (rz_T q.1) (rz_n q.1) f 14 0 (pr_fn (rz_n q.1) S2 (lx_next (rz_T q.1) (rz_n q.1) (lx_next (rz_T q.1) (rz_n q.1) c2))) [] (lx_next (rz_T q.1) (rz_n q.1) (lx_next (rz_T q.1) (rz_n q.1) (lx_next (rz_T q.1) (rz_n q.1) c2))) S2) fun e c3 S3 => pr_ok 0 c3 (ml_sa S3 27 (pr_k S) (nI e))
        else pr_er 2 (lx_next (rz_T q.1) (rz_n q.1) (lx_next (rz_T q.1) (rz_n q.1) c2))
      else pr_er 1 (lx_next (rz_T q.1) (rz_n q.1) c2)
    else pr_er 1 c2) = some r1) (hx1 : ∀ k, r1 = .inl k → r = .inl k) (hr : ∀ e c3 S3, r1 = .inr (e, c3, S3) → pe_end (rz_T q.1) (rz_n q.1) (pr_k S) c3 S3 = some r) :
    wk_V q.1.1 mX3_equation (D, 20 * (rz_n q.1 - c) + 30 + al_b (pr_k S - k0) ce, eqP q Q k0 lo c S X G00 G Le ce r, xq_X q G00 r, hp_cs G, hp_ss G) 48 [(0, vR (some q.1.2.1)), (1, vR (some x))] [] G2 r3 := by
  obtain ⟨hV, g1, g2, g3, g4, g5, g6, g7, g8, g9, g10⟩ := id hE
  have hMM : pe_M1 (rz_n q.1) (pe_0 S (pr_k S) c) (pr_k S) c2 S2 := hR.M (by show pr_l S < pr_l S2; omega)
  have ep2 : pr_p S2 = pr_p S := hR.2.2.2.2.1
  have e40 : S2.1 40 = nI (pr_p S) := by rw [← ep2]; exact hR.1.2.2.2.1
  have hc02 := hR.2.1
  have fk : ∀ {H : GH}, rx q.1 no9 G H → rkk q.1 G H → rx q.1 no9 G00 H ∧ rkk q.1 G00 H := fun u v => ⟨f00.tr u (fun _ _ w => w), fun k hk => (v k hk).trans (k00 k hk)⟩
  refine wk_less hr3 ?_
  refine blX3_equation_48 hp2.1.1.1.1 (X3_need_C (k := 41) (d := 9) hp2.1 (by decide) (Nat.le_refl 9)) (by show 9 + 1 ≤ D; omega) (by omega) ?_ (fun E a G' u => wk_out0 rfl ⟨1, _, hx1 _ (by rw [if_neg u.1] at h; exact (Option.some.inj h).symm), u.2.of (fk f2 k2).1 (fk f2 k2).2 (fun _ _ u => u)⟩)
  rintro v G3 ⟨rfl, hq3, t1, t2⟩
  rw [if_pos hq3] at h
  obtain ⟨tk1, tk2⟩ := lx_tk (T := rz_T q.1) (n := rz_n q.1) (c := c2) (by rw [hq3]; decide)
  obtain ⟨hp3, pn3⟩ := hp2.scan t1 t2
  generalize lx_next (rz_T q.1) (rz_n q.1) c2 = c3 at h hp3 tk1 tk2
  obtain ⟨he3, -⟩ := he2.rx pn3.2.2.2.2.1 hp2.1.1.1.1 hp2.1.1.2.1.1
  have f3 : rx q.1 no9 G G3 := f2.tr pn3.2.2.2.2.1 (fun _ _ u => u)
  have k3 : rkk q.1 G G3 := fun k hk => (pn3.2.2.2.2.2 k hk).trans (k2 k hk)
  refine blX3_equation_55 hp3.1.1.1.1 (X3_need_C (k := 61) (d := 9) hp3.1 (by decide) (Nat.le_refl 9)) (by show 9 + 1 ≤ D; omega) (by omega) ?_ (fun E a G' u => wk_out0 rfl ⟨1, _, hx1 _ (by rw [if_neg u.1] at h; exact (Option.some.inj h).symm), u.2.of (fk f3 k3).1 (fk f3 k3).2 (fun _ _ u => u)⟩)
  rintro v G4 ⟨rfl, hq4, t3, t4⟩
  rw [if_pos hq4] at h
  obtain ⟨tk3, tk4⟩ := lx_tk (T := rz_T q.1) (n := rz_n q.1) (c := c3) (by rw [hq4]; decide)
  obtain ⟨hp4, pn4⟩ := hp3.scan t3 t4
  generalize lx_next (rz_T q.1) (rz_n q.1) c3 = c4 at h hp4 tk3 tk4
  obtain ⟨he4, -⟩ := he3.rx pn4.2.2.2.2.1 hp3.1.1.1.1 hp3.1.1.2.1.1
  have f4 : rx q.1 no9 G G4 := f3.tr pn4.2.2.2.2.1 (fun _ _ u => u)
  have k4 : rkk q.1 G G4 := fun k hk => (pn4.2.2.2.2.2 k hk).trans (k3 k hk)
  refine blX3_equation_62 hp4.1.1.1.1 (X3_isName_C (d := 5) hp4.1 hp4.2.1.1.1 (Nat.le_refl 5)) (by show 5 + 1 ≤ D; omega) (Nat.zero_le _) ?_ (fun _ _ _ u => absurd u id)
  rintro v G5 ⟨rfl, t5, t6⟩
  obtain ⟨hp5, pn5⟩ := hp4.scan t5 t6
  obtain ⟨he5, -⟩ := he4.rx pn5.2.2.2.2.1 hp4.1.1.1.1 hp4.1.1.2.1.1
  have f5 : rx q.1 no9 G G5 := f4.tr pn5.2.2.2.2.1 (fun _ _ u => u)
  have k5 : rkk q.1 G G5 := fun k hk => (pn5.2.2.2.2.2 k hk).trans (k4 k hk)
  refine blX3_equation_66 (fun u => ?_) (fun u => ?_)
  · have hnm := lx_b1 u
    rw [if_neg (fun u => u hnm)] at h
    obtain ⟨tk5, tk6⟩ := lx_tkn (T := rz_T q.1) (n := rz_n q.1) (c := c4) hnm
    obtain ⟨wa, wa1, wa2⟩ := hp5.1.2.2.2.2.2.1 hnm.1
    obtain ⟨hv, v1, v2⟩ := hp5.2.1.2.2.1
    refine blX3_equation_74 hp5.1.1.1.1 v1 v2.1.1 (by rw [wa1]; exact X3_getn (d := 25) hp5 wa2 hnm.1 v1 hcmp (Nat.le_refl 25)) (by show 25 + 1 ≤ D; omega) (Nat.zero_le _) ?_ (fun _ _ _ u => absurd u id)
    rintro v G6 ⟨rfl, hp6, pn6⟩
    obtain ⟨he6, -⟩ := he5.rx pn6.2.2.2.2.1 hp5.1.1.1.1 hp5.1.1.2.1.1
    have f6 : rx q.1 no9 G G6 := f5.tr pn6.2.2.2.2.1 (fun _ _ u => u)
    have k6 : rkk q.1 G G6 := fun k hk => (pn6.2.2.2.2.2 k hk).trans (k5 k hk)
    by_cases hlt : pr_fn (rz_n q.1) S2 c4 < pr_N S2
    · rw [if_pos hlt] at h ⊢
      have x1 := hp6.2.1.2.2.2.2.1 _ hlt
      refine blX3_equation_85 (fun y hy => ?_) (fun o9 _ => ?_) (fun hy => by cases hy)
      · rw [← Option.some.inj hy, x1]
        exact ⟨by decide, by decide, Or.inl rfl⟩
      refine blX3_equation_103 hp6.1.1.1.1 (X3_scan_A (d := 7) hp6.1 (Nat.le_refl 7)) (by show 7 + 1 ≤ D; omega) (by omega) ?_ (fun _ _ _ u => absurd u id)
      rintro v G7 ⟨rfl, t7, t8⟩
      obtain ⟨hp7, pn7⟩ := hp6.scan t7 t8
      obtain ⟨he7, -⟩ := he6.rx pn7.2.2.2.2.1 hp6.1.1.1.1 hp6.1.1.2.1.1
      have f7 : rx q.1 no9 G G7 := f6.tr pn7.2.2.2.2.1 (fun _ _ u => u)
      have k7 : rkk q.1 G G7 := fun k hk => (pn7.2.2.2.2.2 k hk).trans (k6 k hk)
      have hfn : ∃ fn, fn = pr_fn (rz_n q.1) S2 c4 := ⟨_, rfl⟩
      obtain ⟨fn, hfn⟩ := hfn
      rw [← hfn] at h hlt ⊢
      generalize lx_next (rz_T q.1) (rz_n q.1) c4 = c5 at h hp7 tk5 tk6
      have kR7 := hp7.1.1.1.1
      have kB7 := hp7.1.1.2.1.1
      have sg : hp_r G7 q.1.2.1 6 = zg q.1.1 40 ↔ lx_kind (rz_T q.1) (rz_n q.1) c5 = 40 := hp7.1.sign (by decide)
      obtain ⟨r9, h9, hx9, h⟩ := pr_b_some h
      refine blX3_equation_107 kR7 (fun u => ?_) (fun u => ?_)
      · refine blX3_equation_122 (by omega) (fun t ht hA => ?_)
        obtain ⟨w1, w2, w3, w4⟩ := nw_x (k := 21) hp7 ht
        have fw : cf (fun _ => False) G7 (hp_nw G7 t 21 0) := cf.rf.nw ht
        have kx7 : hp_kd G7 x ≠ 0 := by rw [he7.1.1.1]; decide
        refine blX3_equation_125 rfl (fw.k he7.1.1.1 (by decide)) (by rw [fw.r kx7 (fun u => u)]; exact he7.1.2.1.1) (fw.k he7.1.2.2.1.1 (by decide)) (J5_size_C (d := 0) (he7.1.2.2.fr fw (fun u => u) (fun _ _ _ u => u))) (by show 0 + 1 ≤ D; omega) (Nat.zero_le _) ?_ (fun _ _ _ u => absurd u id)
        rintro v G8 ⟨rfl, rfl⟩
        refine blX3_equation_134 w2 rfl (by rw [w3]; exact X13_init_C (d := 5) w1 hA w4 (Nat.le_refl 5)) (by show 5 + 1 ≤ D; omega) (by omega) ?_ (fun _ _ _ u => absurd u id)
        rintro v G8 ⟨rfl, G9, hto, rfl⟩
        obtain ⟨L', s1, s2, s3, s4⟩ := pd_new (G3 := hp_sR (hp_sI (hp_sR G9 t 5 (some (qN q fn))) t 6 (nI m)) t 7 (some x)) hp7 pin.id0 ht hA (by decide) hto ((((cf.rf (own := fun y => y = t)).sR (Or.inl rfl)).sI (Or.inl rfl)).sR (Or.inl rfl)) (by rw [hp_i_sR, hp_i_sI, if_pos rfl, if_neg (by decide)]; rfl) ⟨by rw [hp_r_sR, if_pos rfl, if_neg (by decide), hp_r_sI, hp_r_sR, if_pos rfl, if_neg (by decide)], by rw [hp_r_sR, if_pos rfl, if_neg (by decide), hp_r_sI, hp_r_sR, if_pos rfl, if_neg (by decide)]⟩
        have r5 : hp_r (hp_sR (hp_sI (hp_sR G9 t 5 (some (qN q fn))) t 6 (nI m)) t 7 (some x)) t 5 = some (qN q fn) := by rw [hp_r_sR, if_pos rfl, if_neg (by decide), hp_r_sI, hp_r_sR, if_pos rfl, if_pos rfl]
        have i6 : hp_i (hp_sR (hp_sI (hp_sR G9 t 5 (some (qN q fn))) t 6 (nI m)) t 7 (some x)) t 6 = nI m := by rw [hp_i_sR, hp_i_sI, if_pos rfl, if_pos rfl]
        have r7 : hp_r (hp_sR (hp_sI (hp_sR G9 t 5 (some (qN q fn))) t 6 (nI m)) t 7 (some x)) t 7 = some x := by rw [hp_r_sR, if_pos rfl, if_pos rfl]
        have hx7 : xq_pre q lo c5 S2 X (hp_sR (hp_sI (hp_sR G9 t 5 (some (qN q fn))) t 6 (nI m)) t 7 (some x)) := ⟨s1, ⟨pr_p S, e40, by omega, tk6, hR.1.1⟩, by rw [ep2]; exact hlo, by rw [ep2]; exact hM⟩
        refine wk_have fun hA9 hB9 => ?_
        refine blX3_equation_141 rfl s2.1.1 hA s1.1.1.1.1 (ih.2.1 fn 0 c5 lo S2 X _ r9 885 t L' S2 X G7 (some (x, m)) hlt hx7 s3 s2 r5 (Or.inr ⟨x, m, rfl, i6, r7⟩) (Nat.zero_le _) h9 (by decide)) (by show 885 + 1 ≤ D; omega) (by omega) ?_ (fun E a G' u => wk_out0 rfl ?_)
        · rintro v G11 ⟨rfl, e, c6, S6, X6, he6', hX6, hp8, pn8, hb8⟩
          have h := h _ _ _ he6'
          rw [he6'] at h9
          obtain ⟨hM2, u1, u2, u3, u4, u5, hpR⟩ := (hMM.step (c2 := c5) (by omega) tk6).rhs h9 (Or.inr rfl) (fun _ => hlt)
          obtain ⟨he8, hr8⟩ := he7.rx pn8.2.2.2.2.1 kR7 kB7
          have f8 : rx q.1 no9 G G11 := f7.tr pn8.2.2.2.2.1 (fun _ _ u => u)
          have k8 : rkk q.1 G G11 := fun k hk => (pn8.2.2.2.2.2 k hk).trans (k7 k hk)
          have sb8 : pq_same S6 (ml_sa S6 27 (pr_k S) (nI e)) := ⟨fun _ _ _ _ => rfl, fun k _ _ _ a _ => by funext j; rw [ml_sa_a, if_neg (by omega)]⟩
          have hp9 := hp8.cgE sb8.E rfl (fun k hk => by funext j; rw [ml_sa_a, if_neg (by omega)])
          have he9 : eqp q (ml_sa S6 27 (pr_k S) (nI e)) G G11 x (nI c) (pr_l S) m cap L := he8.cgS (sb8.a.trans pn8.1.a) (fun j _ _ => by rw [ml_sa_a, if_neg (by decide), pn8.1.2 28 (by decide) (by decide) (by omega)])
          obtain ⟨y1, y2, y3, y4, y5⟩ := eqp_r1 (q := qU q e (some (x, m))) (v := some t) hp9 he9 f8 k8
          have hc6 : c6 ≤ rz_n q.1 := hp8.1.2.1
          refine wk_bk hA9 hB9 hb8 (r' := 20 * (rz_n q.1 - c6) + 20 + al_b (pr_k S - k0) ce) (by omega) ?_
          refine blX3_equation_153 rfl he8.1.1.1 he8.1.1.2.1 ?_
          exact X3_eq_end (mv := some (x, m)) (e := e) hp y1 y2 (by rw [hX6]; exact y5) hM2 u2 u3 (by rw [u5, hl]) (fun j hj => pn8.2.2.1 j (by omega)) (fun j u1 u2 => f7.1.fresh (pn8.2.2.2.1 j (by omega) u2)) (by rw [if_pos hq]) y3 y4 f00 k00 hE hB hk0 hW hL (by omega) (hr _ _ _ (Option.some.inj h).symm) (by omega) (Nat.le_refl _)
        · obtain ⟨k, c', e, h2⟩ := u
          exact ⟨k, c', hx1 _ (hx9 _ e), h2.of (fk f7 k7).1 (fk f7 k7).2 (fun _ _ u => u)⟩
      · have hq8 : ¬ lx_kind (rz_T q.1) (rz_n q.1) c5 = 40 := fun v => u (sg.2 v)
        have e9 := pp_call_need h9 hq8
        refine blX3_equation_117 kR7 (X3_misfit_C (d := 1) hp7.1 (Nat.le_refl 1)) (by show 1 + 1 ≤ D; omega) (Nat.zero_le _) ?_ (fun _ _ _ u => absurd u id)
        rintro v G8 ⟨rfl, y1, y2⟩
        refine blX3_equation_121 rfl (by rw [y2]; decide) (by rw [y2]; decide) (wk_out0 rfl ⟨1, c5, hx1 _ (hx9 _ e9), ?_⟩)
        rw [y2]
        exact y1.of (fk f7 k7).1 (fk f7 k7).2 (fun _ _ u => u)
    · rw [if_neg hlt] at h ⊢
      refine blX3_equation_85 (fun y hy => by cases hy) (fun o9 hy => by cases hy) (fun _ => ?_)
      refine blX3_equation_93 hp6.1.1.1.1 (by rw [hp6.1.2.2.1]; exact X3_fail_C (d := 0) hp6.1.1) (by show 0 + 1 ≤ D; omega) (Nat.zero_le _) ?_ (fun _ _ _ u => absurd u id)
      rintro v G7 ⟨rfl, y1, y2⟩
      refine blX3_equation_102 rfl (by rw [y2]; decide) (by rw [y2]; decide) (wk_out0 rfl ⟨2, c4, hx1 _ (Option.some.inj h).symm, ?_⟩)
      rw [y2]
      exact y1.of (fk f6 k6).1 (fk f6 k6).2 (fun _ _ u => u)
  · have hnm := lx_b0.1 u
    rw [if_pos hnm] at h
    refine blX3_equation_69 hp5.1.1.1.1 (X3_misfit_C (d := 1) hp5.1 (Nat.le_refl 1)) (by show 1 + 1 ≤ D; omega) (Nat.zero_le _) ?_ (fun _ _ _ u => absurd u id)
    rintro v G6 ⟨rfl, y1, y2⟩
    refine blX3_equation_73 rfl (by rw [y2]; decide) (by rw [y2]; decide) (wk_out0 rfl ⟨1, c4, hx1 _ (Option.some.inj h).symm, ?_⟩)
    rw [y2]
    exact y1.of (fk f5 k5).1 (fk f5 k5).2 (fun _ _ u => u)
theorem X3_equation_C {f D c k0 Le ce : Nat} {Q : Nat → Nat} {r : PE} (ih : xq_IH q (pp (rz_T q.1) (rz_n q.1) f)) (hcmp : cmp_o q.1.1) (hD : 901 ≤ D) (hp : pst q lo c S X G) (hE : pn_E (rz_n q.1) c S) (hB : S.2 26 (pr_k S) = nI (pr_l S)) (hlo : lo ≤ pr_p S) (hM : ∀ e, pr_p S ≤ e → qM q e = none) (hK : ∀ v, pr_a S ≤ v → v < pr_v S → (qK q v = 0 ↔ v < pr_a S + pr_i S)) (hk0 : k0 ≤ pr_k S) (hW : ∀ k, k0 ≤ k → k < pr_k S → jg_n (S.2 27 k) < pr_p S ∧ jg_n (S.2 26 (k + 1)) ≤ pr_l S) (hL : eqL q Q k0 S X G00 G Le ce) (f00 : rx q.1 no9 G00 G) (k00 : rkk q.1 G00 G) (h : pe_eq (rz_T q.1) (rz_n q.1) f c S = some r) :
    wk_C q.1.1 mX3_equation D (20 * (rz_n q.1 - c) + 30 + al_b (pr_k S - k0) ce) [vR (some q.1.2.1)] G (eqP q Q k0 lo c S X G00 G Le ce r) (xq_X q G00 r) := by
  obtain ⟨hV, g1, g2, g3, g4, g5, g6, g7, g8, g9, g10⟩ := id hE
  have kR := hp.1.1.1.1
  refine wk_C_of (by decide) rfl (Nat.le_of_ble_eq_true rfl) ?_
  refine blX3_equation_0 (by omega) (fun x hx hA => ?_)
  have f1 : cf (fun _ => False) G (hp_nw G x 7 0) := cf.rf.nw hx
  have kx1 : hp_kd (hp_nw G x 7 0) x = 7 := by rw [hp_kd_nw, if_pos rfl]
  refine blX3_equation_3 rfl (X10_init_C (d := 4) kx1 hA (hp.2.1.1.2.1.fr f1) (Nat.le_refl 4)) (by show 4 + 1 ≤ D; omega) (by omega) ?_ (fun _ _ _ u => absurd u id)
  rintro v G2 ⟨rfl, hP⟩
  obtain ⟨L, s1, s2, s3, s4⟩ := eqp_new (pl := hp_i G2 q.1.2.1 3) (l := pr_l S) hp hx hA hP
  have nRx : ¬ q.1.2.1 = x := fun u => by rw [← u, kR] at hx; cases hx
  have hpl : hp_i G2 q.1.2.1 3 = nI c := by have := s1.1.2.2.1; rw [hp_i_sI, if_neg nRx] at this; exact this
  have sb0 := pe_0_same (S := S) (k := pr_k S) (c := c)
  have s1' : pst q lo c (pe_0 S (pr_k S) c) X (hp_sI G2 x 2 (hp_i G2 q.1.2.1 3)) := s1.cgE sb0.E rfl (fun k hk => by
    funext j
    show (ml_sa (ml_sa (ml_sa S 25 (pr_k S) (nI c)) 26 (pr_k S) (S.1 31)) 29 (pr_k S) (S.1 40)).2 k j = _
    rw [ml_sa_a, if_neg (by omega), ml_sa_a, if_neg (by omega), ml_sa_a, if_neg (by omega)])
  have s2' : eqp q (pe_0 S (pr_k S) c) G (hp_sI G2 x 2 (hp_i G2 q.1.2.1 3)) x (nI c) (pr_l S) 0 0 L := (s2.cgpl hpl).cgS sb0.a (fun j a b => by omega)
  unfold pe_eq at h
  refine wk_have fun hA9 hB9 => ?_
  refine blX3_equation_7 s1.1.1.1.1 rfl s2.1.1.1 hA (X3_skip_C (k := 40) (d := 8) s1.1 (by decide) (Nat.le_refl 8)) (by show 8 + 1 ≤ D; omega) (by omega) ?_ (fun _ _ _ u => absurd u id)
  have hcb0 : cb 0 G2 (hp_sI G2 x 2 (hp_i G2 q.1.2.1 3)) := ⟨Nat.le_refl _, Nat.le_refl _⟩
  generalize hp_sI G2 x 2 (hp_i G2 q.1.2.1 3) = G3 at s1 s2 s1' s2' s3 s4 hcb0
  rintro v G4 (⟨hq, rfl, t1, t2⟩ | ⟨hq, rfl, rfl⟩)
  · rw [if_pos hq] at h
    obtain ⟨r1, h1, hx1, hr⟩ := pr_b_some h
    obtain ⟨tk1, tk2⟩ := lx_tk (T := rz_T q.1) (n := rz_n q.1) (c := c) (by rw [hq]; decide)
    obtain ⟨hp4, pn4⟩ := s1'.scan t1 t2
    obtain ⟨he4, -⟩ := s2'.rx pn4.2.2.2.2.1 s1'.1.1.1.1 s1'.1.1.2.1.1
    have hE0 := pe_0_E hE
    have hE4 : pn_E (rz_n q.1) (lx_next (rz_T q.1) (rz_n q.1) c) (pe_0 S (pr_k S) c) := by
      obtain ⟨z1, b1, b2, b3, b4, b5, b6, b7, b8, b9⟩ := hE0
      exact ⟨z1, tk2, b2, b3, by omega, b5, by omega, b7, by omega, b9⟩
    have hK0 : ∀ v, pr_a (pe_0 S (pr_k S) c) ≤ v → v < pr_v (pe_0 S (pr_k S) c) → (qK q v = 0 ↔ v < pr_a (pe_0 S (pr_k S) c) + pr_i (pe_0 S (pr_k S) c)) := by rw [sb0.a, sb0.v, sb0.i]; exact hK
    unfold pe_many at h1
    obtain ⟨r2, h2, hx2, h1⟩ := pr_b_some h1
    have eb : al_b 0 0 = 1 := rfl
    have ec : al_c 0 0 = 10 := rfl
    refine blX3_equation_23 (fun u => absurd u (by decide)) (fun _ => ?_)
    refine X3_eq_left (m := 0) (cap := 0) hcmp (by omega) hp4 hE4 hK0 he4 rfl f00 k00 (s3.tr pn4.2.2.2.2.1 (fun _ _ u => u)) (fun k hk => (pn4.2.2.2.2.2 k hk).trans (s4 k hk)) h2 (fun k e => hx1 k (hx2 k e)) (by omega) (fun G5 S5 e5 hR5 hl5 hp5 he5 f5 k5 tk5 => ?_)
    have h1 := h1 _ _ _ e5
    obtain ⟨r3, h3, hx3, h1⟩ := pr_b_some h1
    have hcn5 := hp5.1.2.1
    have el5 : pr_l S5 = pr_l S + 1 := hl5
    refine X3_eq_lefts (S0 := pe_0 S (pr_k S) c) (c0 := lx_next (rz_T q.1) (rz_n q.1) c) (A := al_b (pr_k S - k0) ce) hcmp (by omega) hK0 rfl f00 k00 (fun k e => hx1 k (hx3 k e)) (fun c2 S2 G2 m cap r3 e2 hR2 hm1 hl2 hp2 he2 f2 k2 hr3 => ?_) f _ S5 G5 1 (al_c 0 0) _ h3 hp5 hR5 he5 (by omega) (Nat.le_refl _) (by decide) f5 k5 (by omega)
    exact X3_eq_call ih hcmp hD hp hE hB hlo hM hk0 hW hL f00 k00 hq hR2 tk1 hm1 hl2 hp2 he2 f2 k2 hr3 (h1 _ _ _ e2) hx1 hr
  · rw [if_neg hq] at h
    refine blX3_equation_23 (fun _ => ?_) (fun u => absurd rfl u)
    refine wk_bk hA9 hB9 hcb0 (u := 0) (r' := 20 * (rz_n q.1 - c) + 28 + al_b (pr_k S - k0) ce) (by omega) ?_
    exact X3_eq_one ih hcmp hD hp hE hB hlo hM hK hk0 hW hL f00 k00 hq h s1' s2' s3 s4 (Nat.le_refl _)
end
