/-! THE PARSER of the reference, method by method; written by tools/gen_pw.py -/
set_option maxRecDepth 100000
section
variable {z : MZ} {T : Nat → Int32} {n : Nat} {rec : PF}
/-- what a part's parse leaves, as the walks use it -/
theorem pq_IH.R4 {m d a c p : Nat} {l : List Nat} {S0 S S1 : MS} {r1 : PE} {e c1 : Nat} (ih : pq_IH z T n rec) (h : rec m d a l c S = some r1) (he : r1 = .inr (e, c1, S1)) (hm : ¬ (m = 3 ∨ m = 5 ∨ m = 8 ∨ m = 10 ∨ m = 12) ∧ m ≠ 15) (hp : S.1 40 = nI p) (hpc : p ≤ c) (hcn : c ≤ n) (hV : pe_V n S) (hT : S.2 0 = T) (hpx : md_px S0 S) (ha : m = 14 → a < pr_N S) :
    pe_R n S p p c e c1 S1 ∧ S1.1 40 = nI (e + 1) ∧ pe_V n S1 ∧ S1.2 0 = T ∧ md_px S0 S1 ∧ p ≤ e ∧ c ≤ c1 ∧ c1 ≤ n ∧ e + 1 + c ≤ p + c1 := by
  subst he
  have hR := (ih.2.2.2.main h hm hp hpc hcn hV ha).1
  exact ⟨hR, hR.2.1, hV.same hR.1, by rw [hR.1.2 0 (by omega) (by omega) (by omega)]; exact hT, hpx.tr hR.1.px, hR.2.2.2.1, hR.2.2.2.2.2.1, hR.2.2.2.2.2.2.1, hR.2.2.2.2.2.2.2.1⟩
theorem X6_expr_W {d c D : Nat} {S σ : MS} {r : PE} (ih : pq_IH z T n rec) (hw : ml_ws z) (hs : ps n c S σ) (hT : S.2 0 = T) (hpre : pq_pre n c S) (hd : d ≤ 40) (h : pp_expr T n rec d c S = some r) (hD : 20 * (41 - d) + 40 - 0 ≤ D) : ml_C z mX6_expression D 1 [vR (some z.2.1), vI (nI d)] σ (fun v σ' _ => pq_N n r v σ') (pq_X S r) := by
  obtain ⟨p, hp, hpc, hcn, hV⟩ := hpre
  have hn := hV.1
  have hpx : md_px S S := md_px.rf
  refine ml_C_of (by decide) rfl (Nat.le_of_ble_eq_true rfl) ?_
  unfold pp_expr at h
  rw [if_neg (by omega)] at h
  refine mbexpression_0 (ps_is hs hT hw (tx := "if") (by simp [lx_words]) (Nat.le_refl 4)) (by show _ ≤ D; omega) (Nat.zero_le _) (ml_krv fun σ ⟨hs, hS⟩ => ?_) ml_no
  refine mbexpression_7 (fun q => ?_) (fun q => ?_)
  · rw [if_neg (lx_b0.1 q)] at h
    obtain ⟨r1, h1, hx1, h⟩ := pr_b_some h
    refine mbexpression_82 (ih.1 1 d _ S σ r1 (20 * (41 - d) + 40 - 1) (by decide) hs hT ⟨_, hp, by omega, by omega, hV⟩ (by omega) h1 (Nat.le_refl _)) (by show _ ≤ D; omega) (Nat.le_refl 1) (pq_kr fun x1 c1 σ he1 hs => ?_) (pq_kx hx1 hpx)
    generalize lx_nz σ = S1 at he1 hs
    have h := h _ _ _ he1
    obtain ⟨hR1, hp1, hV1, hT1, hpx1, ha1, hb1, hd10, he10⟩ := ih.R4 h1 he1 (by omega) hp (by omega) (by omega) hV hT hpx (fun e => absurd e (by omega))
    refine mbexpression_87 (ps_peek hs hT1 (Nat.le_refl 2)) (by show _ ≤ D; omega) (Nat.zero_le _) (ml_krv fun σ ⟨hs, hS⟩ => ?_) ml_no
    refine mbexpression_92 (fun q => ?_) (fun q => ?_)
    · rw [if_neg q] at h
      refine mbexpression_118 (ps_is hs hT1 hw (tx := "fby") (by simp [lx_words]) (Nat.le_refl 4)) (by show _ ≤ D; omega) (Nat.zero_le _) (ml_krv fun σ ⟨hs, hS⟩ => ?_) ml_no
      refine mbexpression_125 (fun q => ?_) (fun q => ?_)
      · rw [if_neg (lx_b0.1 q)] at h
        exact mbexpression_149 (fun G _ => pq_ret h hs)
      · rw [if_pos (lx_b1 q)] at h
        obtain ⟨t1, s1⟩ := lx_tkw (T := T) (n := n) (c := c1) (lx_b1 q)
        obtain ⟨r2, h2, hx2, h⟩ := pr_b_some h
        refine mbexpression_128 (ps_take hs hT1 (Nat.le_refl 3)) (by show _ ≤ D; omega) (Nat.zero_le _) (ml_kr0 fun σ hs => ?_) ml_no
        refine mbexpression_132 (ps_nest hs hd (Nat.le_refl 5)) (by show _ ≤ D; omega) (Nat.le_refl 1) (ml_krv fun σ ⟨hd2, hs⟩ => ?_) (ih.nx h2 (m := 0) (by omega) hx2 hpx1)
        refine mbexpression_142 (ih.1 0 (d + 1) _ S1 σ r2 (20 * (41 - (d + 1)) + 40 - 0) (by decide) hs hT1 ⟨_, hp1, by omega, by omega, hV1⟩ (by omega) h2 (Nat.le_refl _)) (by show _ ≤ D; omega) (Nat.le_refl 1) (pq_kr fun x2 c2 σ he2 hs => ?_) (pq_kx hx2 hpx1)
        generalize lx_nz σ = S2 at he2 hs
        have h := h _ _ _ he2
        obtain ⟨hR2, hp2, hV2, hT2, hpx2, ha2, hb2, hd20, he20⟩ := ih.R4 h2 he2 (by omega) hp1 (by omega) (by omega) hV1 hT1 hpx1 (fun e => absurd e (by omega))
        refine mbexpression_145 (ps_two hs hp2 (by omega) hV2 (by omega) hR2.2.2.2.2.1 h (Nat.le_refl 6)) (by show _ ≤ D; omega) (Nat.le_refl 1) (ml_kr fun v σ g => ?_) (pq_kx (fun _ e => e) hpx2)
        obtain ⟨e, c9, g1, rfl, g2⟩ := g
        exact mbexpression_148 (fun G _ => ⟨e, c9, g1, rfl, g2⟩)
    · rw [if_pos q] at h
      obtain ⟨t1, s1⟩ := lx_tk (T := T) (n := n) (c := c1) (by rw [q]; decide)
      obtain ⟨r2, h2, hx2, h⟩ := pr_b_some h
      refine mbexpression_98 (ps_take hs hT1 (Nat.le_refl 3)) (by show _ ≤ D; omega) (Nat.zero_le _) (ml_kr0 fun σ hs => ?_) ml_no
      refine mbexpression_102 (ps_nest hs hd (Nat.le_refl 5)) (by show _ ≤ D; omega) (Nat.le_refl 1) (ml_krv fun σ ⟨hd2, hs⟩ => ?_) (ih.nx h2 (m := 0) (by omega) hx2 hpx1)
      refine mbexpression_111 (ih.1 0 (d + 1) _ S1 σ r2 (20 * (41 - (d + 1)) + 40 - 0) (by decide) hs hT1 ⟨_, hp1, by omega, by omega, hV1⟩ (by omega) h2 (Nat.le_refl _)) (by show _ ≤ D; omega) (Nat.le_refl 1) (pq_kr fun x2 c2 σ he2 hs => ?_) (pq_kx hx2 hpx1)
      generalize lx_nz σ = S2 at he2 hs
      have h := h _ _ _ he2
      obtain ⟨hR2, hp2, hV2, hT2, hpx2, ha2, hb2, hd20, he20⟩ := ih.R4 h2 he2 (by omega) hp1 (by omega) (by omega) hV1 hT1 hpx1 (fun e => absurd e (by omega))
      refine mbexpression_114 (ps_two hs hp2 (by omega) hV2 (by omega) hR2.2.2.2.2.1 h (Nat.le_refl 6)) (by show _ ≤ D; omega) (Nat.le_refl 1) (ml_kr fun v σ g => ?_) (pq_kx (fun _ e => e) hpx2)
      obtain ⟨e, c9, g1, rfl, g2⟩ := g
      exact mbexpression_117 (fun G _ => ⟨e, c9, g1, rfl, g2⟩)
  · rw [if_pos (lx_b1 q)] at h
    obtain ⟨t1, s1⟩ := lx_tkw (T := T) (n := n) (c := c) (lx_b1 q)
    obtain ⟨r1, h1, hx1, h⟩ := pr_b_some h
    refine mbexpression_10 (ps_take hs hT (Nat.le_refl 3)) (by show _ ≤ D; omega) (Nat.zero_le _) (ml_kr0 fun σ hs => ?_) ml_no
    refine mbexpression_14 (ps_nest hs hd (Nat.le_refl 5)) (by show _ ≤ D; omega) (Nat.le_refl 1) (ml_krv fun σ ⟨hd1, hs⟩ => ?_) (ih.nx h1 (m := 0) (by omega) hx1 hpx)
    refine mbexpression_20 (ih.1 0 (d + 1) _ S σ r1 (20 * (41 - (d + 1)) + 40 - 0) (by decide) hs hT ⟨_, hp, by omega, by omega, hV⟩ (by omega) h1 (Nat.le_refl _)) (by show _ ≤ D; omega) (Nat.le_refl 1) (pq_kr fun x1 c1 σ he1 hs => ?_) (pq_kx hx1 hpx)
    generalize lx_nz σ = S1 at he1 hs
    have h := h _ _ _ he1
    obtain ⟨hR1, hp1, hV1, hT1, hpx1, ha1, hb1, hd10, he10⟩ := ih.R4 h1 he1 (by omega) hp (by omega) (by omega) hV hT hpx (fun e => absurd e (by omega))
    refine mbexpression_23 (ps_mustBe hs hT1 hw (tx := "then") (by simp [lx_words]) (Nat.le_refl 6)) (by show _ ≤ D; omega) (Nat.le_refl 1) (ml_kr0 fun σ ⟨hq, hs⟩ => ?_) (fun kd pl σ' ⟨g1, g2, g3, g4⟩ => by rw [if_neg g1] at h; exact pq_X.er h hpx1 g2 g3 g4)
    rw [if_pos hq] at h
    obtain ⟨t2, s2⟩ := lx_tkw (T := T) (n := n) (c := c1) (hq)
    obtain ⟨r2, h2, hx2, h⟩ := pr_b_some h
    refine mbexpression_31 (ps_nest hs hd (Nat.le_refl 5)) (by show _ ≤ D; omega) (Nat.le_refl 1) (ml_krv fun σ ⟨hd2, hs⟩ => ?_) (ih.nx h2 (m := 0) (by omega) hx2 hpx1)
    refine mbexpression_42 (ih.1 0 (d + 1) _ S1 σ r2 (20 * (41 - (d + 1)) + 40 - 0) (by decide) hs hT1 ⟨_, hp1, by omega, by omega, hV1⟩ (by omega) h2 (Nat.le_refl _)) (by show _ ≤ D; omega) (Nat.le_refl 1) (pq_kr fun x2 c2 σ he2 hs => ?_) (pq_kx hx2 hpx1)
    generalize lx_nz σ = S2 at he2 hs
    have h := h _ _ _ he2
    obtain ⟨hR2, hp2, hV2, hT2, hpx2, ha2, hb2, hd20, he20⟩ := ih.R4 h2 he2 (by omega) hp1 (by omega) (by omega) hV1 hT1 hpx1 (fun e => absurd e (by omega))
    have hcl1 : (nI x1).toNatClampNeg = x1 := nI_clamp (by omega)
    have sb : pe_same S2 (ml_sa S2 35 x1 (nI x2)) := ⟨fun k _ => rfl, fun k _ _ h3 => by funext j; rw [ml_sa_a, if_neg (by omega)]⟩
    have hs := ps_sa (k := 35) (j := x1) (v := nI x2) hs (by omega)
    have hTb : (ml_sa S2 35 x1 (nI x2)).2 0 = T := by rw [sb.2 0 (by omega) (by omega) (by omega)]; exact hT2
    refine mbexpression_45 (P := fun v σ' _ => v = none ∧ lx_isW T n c2 "else" ∧ ps n (lx_next T n c2) (ml_sa S2 35 x1 (nI x2)) σ') (PX := fun kd pl σ' => ¬ lx_isW T n c2 "else" ∧ kd = 1 ∧ pl = nI c2 ∧ lx_nz σ' = ml_sa S2 35 x1 (nI x2)) (d' := 6) (b' := 1) (vp_in_nI (by omega) (by decide)) (by rw [hcl1]; exact ps_mustBe hs hTb hw (tx := "else") (by simp [lx_words]) (Nat.le_refl 6)) (by show _ ≤ D; omega) (Nat.le_refl 1) (ml_kr0 fun σ ⟨hq, hs⟩ => ?_) (fun kd pl σ' ⟨g1, g2, g3, g4⟩ => by rw [if_neg g1] at h; exact pq_X.er h (hpx2.tr sb.px) g2 g3 g4)
    rw [if_pos hq] at h
    obtain ⟨t3, s3⟩ := lx_tkw (T := T) (n := n) (c := c2) (hq)
    obtain ⟨r3, h3, hx3, h⟩ := pr_b_some h
    have hVb := hV2.same sb
    have hpxb := hpx2.tr sb.px
    have hpb : (ml_sa S2 35 x1 (nI x2)).1 40 = nI (x2 + 1) := hp2
    have e35 : (ml_sa S2 35 x1 (nI x2)).2 35 x1 = nI x2 := by rw [ml_sa_a, if_pos rfl, if_pos rfl]
    refine mbexpression_53 (vp_in_nI (by omega) (by decide)) (ps_nest hs hd (Nat.le_refl 5)) (by show _ ≤ D; omega) (Nat.le_refl 1) (ml_krv fun σ2 ⟨hd3, hs2⟩ => ?_) (ih.nx h3 (m := 0) (by omega) hx3 hpxb)
    rw [hs.s2, hcl1, e35]
    refine mbexpression_69 (ih.1 0 (d + 1) _ (ml_sa S2 35 x1 (nI x2)) σ2 r3 (20 * (41 - (d + 1)) + 40 - 0) (by decide) hs2 hTb ⟨_, hpb, by omega, by omega, hVb⟩ (by omega) h3 (Nat.le_refl _)) (by show _ ≤ D; omega) (Nat.le_refl 1) (pq_kr fun x3 c3 σ he3 hs => ?_) (pq_kx hx3 hpxb)
    generalize lx_nz σ = S3 at he3 hs
    have h := h _ _ _ he3
    obtain ⟨hR3, hp3, hV3, hT3, hpx3, ha3, hb3, hd30, he30⟩ := ih.R4 h3 he3 (by omega) hpb (by omega) (by omega) hVb hTb hpxb (fun e => absurd e (by omega))
    have hcl2 : (nI x2).toNatClampNeg = x2 := nI_clamp (by omega)
    have sc : pe_same S3 (ml_sa S3 35 x2 (nI x3)) := ⟨fun k _ => rfl, fun k _ _ h3 => by funext j; rw [ml_sa_a, if_neg (by omega)]⟩
    have hs := ps_sa (k := 35) (j := x2) (v := nI x3) hs (by omega)
    have hch : md_ch ((ml_sa S3 35 x2 (nI x3)).2 35) (pm_first [x1, x2, x3]) [x1, x2, x3] := by
      refine ⟨rfl, ?_⟩
      have ex : (ml_sa S3 35 x2 (nI x3)).2 35 x1 = nI x2 := by rw [ml_sa_a, if_pos rfl, if_neg (by omega), hR3.2.2.2.2.2.2.2.2.1 35 x1 (by omega) (by omega) (by omega), e35]
      rw [ex]
      refine ⟨rfl, ?_⟩
      have ey : (ml_sa S3 35 x2 (nI x3)).2 35 x2 = nI x3 := by rw [ml_sa_a, if_pos rfl, if_pos rfl]
      rw [ey]
      refine ⟨rfl, ?_⟩
      rw [ml_sa_a, if_pos rfl, if_neg (by omega), hR3.2.2.2.2.1]
      show (-1 : Int32) < 0
      decide
    refine mbexpression_72 (P := fun v σ' _ => pq_N n r v σ') (PX := pq_X (ml_sa S3 35 x2 (nI x3)) r) (d' := 5) (b' := 1) (vp_in_nI (by omega) (by decide)) (by rw [hcl2]; exact ps_make hs hp3 (by omega) (hV3.same sc) rfl hch (fun k hk => by simp only [List.mem_cons, List.not_mem_nil, or_false] at hk; omega) h (Nat.le_refl 5)) (by show _ ≤ D; omega) (Nat.le_refl 1) (ml_kr fun v σ g => ?_) (pq_kx (fun _ e => e) (hpx3.tr sc.px))
    obtain ⟨e, c9, g1, rfl, g2⟩ := g
    exact mbexpression_81 (fun G _ => ⟨e, c9, g1, rfl, g2⟩)
theorem X6_impl_W {d c D : Nat} {S σ : MS} {r : PE} (ih : pq_IH z T n rec) (hw : ml_ws z) (hs : ps n c S σ) (hT : S.2 0 = T) (hpre : pq_pre n c S) (hd : d ≤ 40) (h : pp_impl T n rec d c S = some r) (hD : 20 * (41 - d) + 40 - 1 ≤ D) : ml_C z mX6_implied D 1 [vR (some z.2.1), vI (nI d)] σ (fun v σ' _ => pq_N n r v σ') (pq_X S r) := by
  obtain ⟨p, hp, hpc, hcn, hV⟩ := hpre
  have hn := hV.1
  have hpx : md_px S S := md_px.rf
  refine ml_C_of (by decide) rfl (Nat.le_of_ble_eq_true rfl) ?_
  unfold pp_impl at h
  rw [if_neg (by omega)] at h
  obtain ⟨r1, h1, hx1, h⟩ := pr_b_some h
  refine mbimplied_0 (ih.1 2 d _ S σ r1 (20 * (41 - d) + 40 - 2) (by decide) hs hT ⟨_, hp, by omega, by omega, hV⟩ (by omega) h1 (Nat.le_refl _)) (by show _ ≤ D; omega) (Nat.le_refl 1) (pq_kr fun x1 c1 σ he1 hs => ?_) (pq_kx hx1 hpx)
  generalize lx_nz σ = S1 at he1 hs
  have h := h _ _ _ he1
  obtain ⟨hR1, hp1, hV1, hT1, hpx1, ha1, hb1, hd10, he10⟩ := ih.R4 h1 he1 (by omega) hp (by omega) (by omega) hV hT hpx (fun e => absurd e (by omega))
  refine mbimplied_5 (ps_peek hs hT1 (Nat.le_refl 2)) (by show _ ≤ D; omega) (Nat.zero_le _) (ml_krv fun σ ⟨hs, hS⟩ => ?_) ml_no
  refine mbimplied_10 (fun q => ?_) (fun q => ?_)
  · rw [if_pos q] at h
    obtain ⟨t1, s1⟩ := lx_tk (T := T) (n := n) (c := c1) (by rw [q]; decide)
    obtain ⟨r2, h2, hx2, h⟩ := pr_b_some h
    refine mbimplied_18 (ps_take hs hT1 (Nat.le_refl 3)) (by show _ ≤ D; omega) (Nat.zero_le _) (ml_kr0 fun σ hs => ?_) ml_no
    refine mbimplied_22 (ps_nest hs hd (Nat.le_refl 5)) (by show _ ≤ D; omega) (Nat.le_refl 1) (ml_krv fun σ ⟨hd2, hs⟩ => ?_) (ih.nx h2 (m := 1) (by omega) hx2 hpx1)
    refine mbimplied_32 (ih.1 1 (d + 1) _ S1 σ r2 (20 * (41 - (d + 1)) + 40 - 1) (by decide) hs hT1 ⟨_, hp1, by omega, by omega, hV1⟩ (by omega) h2 (Nat.le_refl _)) (by show _ ≤ D; omega) (Nat.le_refl 1) (pq_kr fun x2 c2 σ he2 hs => ?_) (pq_kx hx2 hpx1)
    generalize lx_nz σ = S2 at he2 hs
    have h := h _ _ _ he2
    obtain ⟨hR2, hp2, hV2, hT2, hpx2, ha2, hb2, hd20, he20⟩ := ih.R4 h2 he2 (by omega) hp1 (by omega) (by omega) hV1 hT1 hpx1 (fun e => absurd e (by omega))
    refine mbimplied_35 (ps_two hs hp2 (by omega) hV2 (by omega) hR2.2.2.2.2.1 h (Nat.le_refl 6)) (by show _ ≤ D; omega) (Nat.le_refl 1) (ml_kr fun v σ g => ?_) (pq_kx (fun _ e => e) hpx2)
    obtain ⟨e, c9, g1, rfl, g2⟩ := g
    exact mbimplied_38 (fun G _ => ⟨e, c9, g1, rfl, g2⟩)
  · rw [if_neg q] at h
    exact mbimplied_16 (fun G _ => pq_ret h hs)
theorem X6_cmp_W {d c D : Nat} {S σ : MS} {r : PE} (ih : pq_IH z T n rec) (hw : ml_ws z) (hs : ps n c S σ) (hT : S.2 0 = T) (hpre : pq_pre n c S) (hd : d ≤ 40) (h : pp_cmp T n rec d c S = some r) (hD : 20 * (41 - d) + 40 - 6 ≤ D) : ml_C z mX6_compared D 1 [vR (some z.2.1), vI (nI d)] σ (fun v σ' _ => pq_N n r v σ') (pq_X S r) := by
  obtain ⟨p, hp, hpc, hcn, hV⟩ := hpre
  have hn := hV.1
  have hpx : md_px S S := md_px.rf
  refine ml_C_of (by decide) rfl (Nat.le_of_ble_eq_true rfl) ?_
  unfold pp_cmp at h
  obtain ⟨r1, h1, hx1, h⟩ := pr_b_some h
  refine mbcompared_0 (ih.1 7 d _ S σ r1 (20 * (41 - d) + 40 - 7) (by decide) hs hT ⟨_, hp, by omega, by omega, hV⟩ (by omega) h1 (Nat.le_refl _)) (by show _ ≤ D; omega) (Nat.le_refl 1) (pq_kr fun x1 c1 σ he1 hs => ?_) (pq_kx hx1 hpx)
  generalize lx_nz σ = S1 at he1 hs
  have h := h _ _ _ he1
  obtain ⟨hR1, hp1, hV1, hT1, hpx1, ha1, hb1, hd10, he10⟩ := ih.R4 h1 he1 (by omega) hp (by omega) (by omega) hV hT hpx (fun e => absurd e (by omega))
  refine mbcompared_5 (ps_peek hs hT1 (Nat.le_refl 2)) (by show _ ≤ D; omega) (Nat.zero_le _) (ml_krv fun σ ⟨hs, hS⟩ => ?_) ml_no
  have go : ∀ E (t : Int32), pr_cmp (lx_kind T n c1) = t → ml_V z mX6_compared (D, 1, (fun v σ' _ => pq_N n r v σ'), pq_X S r) 81 [(0, vR (some z.2.1)), (1, vI (nI d)), (2, vI (nI x1))] [vI t] σ E 1 := by
    intro E t ht
    rw [ht] at h
    refine mbcompared_81 (fun q => ?_) (fun q => ?_)
    · rw [if_neg q] at h
      obtain ⟨t1, s1⟩ := lx_tk (T := T) (n := n) (c := c1) (pr_cmp_ok (by rw [ht]; exact q)).1
      obtain ⟨r2, h2, hx2, h⟩ := pr_b_some h
      refine mbcompared_90 (ps_take hs hT1 (Nat.le_refl 3)) (by show _ ≤ D; omega) (Nat.zero_le _) (ml_kr0 fun σ hs => ?_) ml_no
      refine mbcompared_94 (ih.1 7 d _ S1 σ r2 (20 * (41 - d) + 40 - 7) (by decide) hs hT1 ⟨_, hp1, by omega, by omega, hV1⟩ (by omega) h2 (Nat.le_refl _)) (by show _ ≤ D; omega) (Nat.le_refl 1) (pq_kr fun x2 c2 σ he2 hs => ?_) (pq_kx hx2 hpx1)
      generalize lx_nz σ = S2 at he2 hs
      have h := h _ _ _ he2
      obtain ⟨hR2, hp2, hV2, hT2, hpx2, ha2, hb2, hd20, he20⟩ := ih.R4 h2 he2 (by omega) hp1 (by omega) (by omega) hV1 hT1 hpx1 (fun e => absurd e (by omega))
      refine mbcompared_99 (ps_two hs hp2 (by omega) hV2 (by omega) hR2.2.2.2.2.1 h (Nat.le_refl 6)) (by show _ ≤ D; omega) (Nat.le_refl 1) (ml_kr fun v σ g => ?_) (pq_kx (fun _ e => e) hpx2)
      obtain ⟨e, c9, g1, rfl, g2⟩ := g
      exact mbcompared_110 (fun G _ => ⟨e, c9, g1, rfl, g2⟩)
    · rw [if_pos q] at h
      exact mbcompared_88 (fun G _ => pq_ret h hs)
  refine mbcompared_10 (fun q0 => ?_) (fun q => mbcompared_17 (go _ _ (by rw [q]; rfl)))
  refine mbcompared_22 (fun q1 => ?_) (fun q => mbcompared_29 (go _ _ (by rw [q]; rfl)))
  refine mbcompared_34 (fun q2 => ?_) (fun q => mbcompared_40 (go _ _ (by rw [q]; rfl)))
  refine mbcompared_45 (fun q3 => ?_) (fun q => mbcompared_52 (go _ _ (by rw [q]; rfl)))
  refine mbcompared_57 (fun q4 => ?_) (fun q => mbcompared_63 (go _ _ (by rw [q]; rfl)))
  refine mbcompared_68 (fun q5 => ?_) (fun q => mbcompared_75 (go _ _ (by rw [q]; rfl)))
  exact mbcompared_80 (go _ _ (by rw [pr_cmp, if_neg q0, if_neg q1, if_neg q2, if_neg q3, if_neg q4, if_neg q5]))
theorem X6_either_L {f D d a c p lo : Nat} {S0 S σ : MS} {r : PE} (ih : pq_IH z T n (pp T n f)) (hw : ml_ws z) (hd : d ≤ 40) (hD : 20 * (41 - d) + 40 - 2 ≤ D) (lp : ∀ a c p S σ E, ps n c S σ → S.2 0 = T → md_px S0 S → pp_pre n 3 a [] lo p c S → pp T n f 3 d a [] c S = some r → ml_V z mX6_either (D, 1, (fun v σ' _ => pq_N n r v σ'), pq_X S0 r) 6 [(0, vR (some z.2.1)), (1, vI (nI d)), (2, vI (nI a))] [] σ E 1)
    (hs : ps n c S σ) (hT : S.2 0 = T) (hpx : md_px S0 S) (hpre : pp_pre n 3 a [] lo p c S) (h : pp_lp T n (pp T n f) 4 3 (kk_or T n) d a c S = some r) (E : GH → Prop) : ml_V z mX6_either (D, 1, (fun v σ' _ => pq_N n r v σ'), pq_X S0 r) 6 [(0, vR (some z.2.1)), (1, vI (nI d)), (2, vI (nI a))] [] σ E 1 := by
  have hR0 := hpre.R (by omega)
  have hV := hpre.2.2.2.1
  have hpc := hpre.2.1
  have hcn := hpre.2.2.1
  have hn := hV.1
  have hpa : a + 1 = p := by have h5 := hpre.2.2.2.2; rw [if_pos (by omega)] at h5; exact h5.1
  have hp : S.1 40 = nI (a + 1) := by rw [hpa]; exact hpre.1
  have hla := hR0.2.2.2.1
  unfold pp_lp at h
  have go : ∀ E σ (k : Int32), ps n c S σ → kk_or T n c = k → k ≠ 0 → ml_V z mX6_either (D, 1, (fun v σ' _ => pq_N n r v σ'), pq_X S0 r) 43 [(0, vR (some z.2.1)), (1, vI (nI d)), (2, vI (nI a))] [vI k] σ E 1 := by
    intro E σ k hs hk h0
    rw [hk, if_neg h0] at h
    obtain ⟨g1, g2⟩ := kk_or_ok (T := T) (n := n) (c := c) (by rw [hk]; exact h0)
    rw [hk] at g2
    obtain ⟨t1, s1⟩ := lx_tk g1
    obtain ⟨r1, h1, hx1, h⟩ := pr_b_some h
    refine mbeither_43 (ps_take hs hT (Nat.le_refl 3)) (by show _ ≤ D; omega) (Nat.zero_le _) (ml_kr0 fun σ hs => ?_) ml_no
    refine mbeither_48 (ih.1 4 d _ S σ r1 (20 * (41 - d) + 40 - 4) (by decide) hs hT ⟨_, hp, by omega, by omega, hV⟩ (by omega) h1 (Nat.le_refl _)) (by show _ ≤ D; omega) (Nat.le_refl 1) (pq_kr fun x1 c1 σ he1 hs => ?_) (pq_kx hx1 hpx)
    generalize lx_nz σ = S1 at he1 hs
    have h := h _ _ _ he1
    obtain ⟨hR1, hp1, hV1, hT1, hpx1, ha1, hb1, hd10, he10⟩ := ih.R4 h1 he1 (by omega) hp (by omega) (by omega) hV hT hpx (fun e => absurd e (by omega))
    obtain ⟨r2, h2, hx2, h⟩ := pr_b_some h
    refine mbeither_53 (ps_two hs hp1 (by omega) hV1 (by omega) hR1.2.2.2.2.1 h2 (Nat.le_refl 6)) (by show _ ≤ D; omega) (Nat.le_refl 1) (pq_kr fun x2 c2 σ he2 hs => ?_) (pq_kx hx2 hpx1)
    generalize lx_nz σ = S2 at he2 hs
    replace h := h _ _ _ he2
    subst he2
    obtain ⟨hR2, -⟩ := pp_two (Inv := fun _ => True) pc_cl_T hn hpc hR0 t1 hR1 hV g2 h2 id id
    dsimp only at hR2
    refine mbeither_63 ?_
    exact lp x2 c2 (x2 + 1) S2 σ _ hs (by rw [hR2.1.2 0 (by omega) (by omega) (by omega)]; exact hT) (hpx.tr hR2.1.px) (hR2.pre hpc hV (by omega)) h
  have out : ∀ E σ, ps n c S σ → kk_or T n c = 0 → ml_V z mX6_either (D, 1, (fun v σ' _ => pq_N n r v σ'), pq_X S0 r) 67 [(2, vI (nI a))] [] σ E 1 := by
    intro E σ hs hk
    rw [if_pos hk] at h
    exact mbeither_67 (fun G _ => pq_ret h hs)
  have kd : ∀ E σ, ps n c S σ → kk_or T n c ≠ 0 → ml_V z mX6_either (D, 1, (fun v σ' _ => pq_N n r v σ'), pq_X S0 r) 26 [(0, vR (some z.2.1)), (1, vI (nI d)), (2, vI (nI a))] [] σ E 1 := by
    intro E σ hs hk
    refine mbeither_26 (ps_is hs hT hw (tx := "or") (by simp [lx_words]) (Nat.le_refl 4)) (by show _ ≤ D; omega) (Nat.zero_le _) (ml_krv fun σ ⟨hs, hS⟩ => ?_) ml_no
    refine mbeither_33 (fun q => mbeither_41 (go _ _ _ hs ?_ (by decide))) (fun q => mbeither_36 (go _ _ _ hs ?_ (by decide)))
    · unfold kk_or at hk ⊢; rw [if_neg (lx_b0.1 q)] at hk ⊢; split; rfl; rename_i u; rw [if_neg u] at hk; exact absurd rfl hk
    · rw [kk_or, if_pos (lx_b1 q)]
  refine mbeither_6 (ps_is hs hT hw (tx := "or") (by simp [lx_words]) (Nat.le_refl 4)) (by show _ ≤ D; omega) (Nat.zero_le _) (ml_krv fun σ ⟨hs, hS⟩ => ?_) ml_no
  refine mbeither_13 (fun q => ?_) (fun q => ?_)
  · exact kd _ _ hs (by rw [kk_or, if_pos (lx_b1 q)]; decide)
  · have q1 := lx_b0.1 q
    refine mbeither_16 (ps_is hs hT hw (tx := "xor") (by simp [lx_words]) (Nat.le_refl 4)) (by show _ ≤ D; omega) (Nat.zero_le _) (ml_krv fun σ ⟨hs, hS⟩ => ?_) ml_no
    refine mbeither_23 (fun q => ?_) (fun q => ?_)
    · exact out _ _ hs (by rw [kk_or, if_neg q1, if_neg (lx_b0.1 q)])
    · exact kd _ _ hs (by rw [kk_or, if_neg q1, if_pos (lx_b1 q)]; decide)
theorem X6_both_L {f D d a c p lo : Nat} {S0 S σ : MS} {r : PE} (ih : pq_IH z T n (pp T n f)) (hw : ml_ws z) (hd : d ≤ 40) (hD : 20 * (41 - d) + 40 - 4 ≤ D) (lp : ∀ a c p S σ E, ps n c S σ → S.2 0 = T → md_px S0 S → pp_pre n 5 a [] lo p c S → pp T n f 5 d a [] c S = some r → ml_V z mX6_both (D, 1, (fun v σ' _ => pq_N n r v σ'), pq_X S0 r) 6 [(0, vR (some z.2.1)), (1, vI (nI d)), (2, vI (nI a))] [] σ E 1)
    (hs : ps n c S σ) (hT : S.2 0 = T) (hpx : md_px S0 S) (hpre : pp_pre n 5 a [] lo p c S) (h : pp_lp T n (pp T n f) 6 5 (kk_and T n) d a c S = some r) (E : GH → Prop) : ml_V z mX6_both (D, 1, (fun v σ' _ => pq_N n r v σ'), pq_X S0 r) 6 [(0, vR (some z.2.1)), (1, vI (nI d)), (2, vI (nI a))] [] σ E 1 := by
  have hR0 := hpre.R (by omega)
  have hV := hpre.2.2.2.1
  have hpc := hpre.2.1
  have hcn := hpre.2.2.1
  have hn := hV.1
  have hpa : a + 1 = p := by have h5 := hpre.2.2.2.2; rw [if_pos (by omega)] at h5; exact h5.1
  have hp : S.1 40 = nI (a + 1) := by rw [hpa]; exact hpre.1
  have hla := hR0.2.2.2.1
  unfold pp_lp at h
  have go : ∀ E σ (k : Int32), ps n c S σ → kk_and T n c = k → k ≠ 0 → ml_V z mX6_both (D, 1, (fun v σ' _ => pq_N n r v σ'), pq_X S0 r) 16 [(0, vR (some z.2.1)), (1, vI (nI d)), (2, vI (nI a))] [] σ E 1 := by
    intro E σ k hs hk h0
    rw [hk, if_neg h0] at h
    obtain ⟨g1, g2⟩ := kk_and_ok (T := T) (n := n) (c := c) (by rw [hk]; exact h0)
    rw [hk] at g2
    obtain ⟨t1, s1⟩ := lx_tk g1
    have hk10 : k = 10 := by rw [← hk]; unfold kk_and; split; rfl; rename_i u; exact absurd (by rw [← hk, kk_and, if_neg u]) h0
    subst hk10
    obtain ⟨r1, h1, hx1, h⟩ := pr_b_some h
    refine mbboth_16 (ps_take hs hT (Nat.le_refl 3)) (by show _ ≤ D; omega) (Nat.zero_le _) (ml_kr0 fun σ hs => ?_) ml_no
    refine mbboth_20 (ih.1 6 d _ S σ r1 (20 * (41 - d) + 40 - 6) (by decide) hs hT ⟨_, hp, by omega, by omega, hV⟩ (by omega) h1 (Nat.le_refl _)) (by show _ ≤ D; omega) (Nat.le_refl 1) (pq_kr fun x1 c1 σ he1 hs => ?_) (pq_kx hx1 hpx)
    generalize lx_nz σ = S1 at he1 hs
    have h := h _ _ _ he1
    obtain ⟨hR1, hp1, hV1, hT1, hpx1, ha1, hb1, hd10, he10⟩ := ih.R4 h1 he1 (by omega) hp (by omega) (by omega) hV hT hpx (fun e => absurd e (by omega))
    obtain ⟨r2, h2, hx2, h⟩ := pr_b_some h
    refine mbboth_25 (ps_two hs hp1 (by omega) hV1 (by omega) hR1.2.2.2.2.1 h2 (Nat.le_refl 6)) (by show _ ≤ D; omega) (Nat.le_refl 1) (pq_kr fun x2 c2 σ he2 hs => ?_) (pq_kx hx2 hpx1)
    generalize lx_nz σ = S2 at he2 hs
    replace h := h _ _ _ he2
    subst he2
    obtain ⟨hR2, -⟩ := pp_two (Inv := fun _ => True) pc_cl_T hn hpc hR0 t1 hR1 hV g2 h2 id id
    dsimp only at hR2
    refine mbboth_34 ?_
    exact lp x2 c2 (x2 + 1) S2 σ _ hs (by rw [hR2.1.2 0 (by omega) (by omega) (by omega)]; exact hT) (hpx.tr hR2.1.px) (hR2.pre hpc hV (by omega)) h
  have out : ∀ E σ, ps n c S σ → kk_and T n c = 0 → ml_V z mX6_both (D, 1, (fun v σ' _ => pq_N n r v σ'), pq_X S0 r) 38 [(2, vI (nI a))] [] σ E 1 := by
    intro E σ hs hk
    rw [if_pos hk] at h
    exact mbboth_38 (fun G _ => pq_ret h hs)
  refine mbboth_6 (ps_is hs hT hw (tx := "and") (by simp [lx_words]) (Nat.le_refl 4)) (by show _ ≤ D; omega) (Nat.zero_le _) (ml_krv fun σ ⟨hs, hS⟩ => ?_) ml_no
  refine mbboth_13 (fun q => ?_) (fun q => ?_)
  · exact out _ _ hs (by rw [kk_and, if_neg (lx_b0.1 q)])
  · exact go _ _ 10 hs (by rw [kk_and, if_pos (lx_b1 q)]) (by decide)
theorem X6_sum_L {f D d a c p lo : Nat} {S0 S σ : MS} {r : PE} (ih : pq_IH z T n (pp T n f)) (hw : ml_ws z) (hd : d ≤ 40) (hD : 20 * (41 - d) + 40 - 7 ≤ D) (lp : ∀ a c p S σ E, ps n c S σ → S.2 0 = T → md_px S0 S → pp_pre n 8 a [] lo p c S → pp T n f 8 d a [] c S = some r → ml_V z mX6_sum (D, 1, (fun v σ' _ => pq_N n r v σ'), pq_X S0 r) 6 [(0, vR (some z.2.1)), (1, vI (nI d)), (2, vI (nI a))] [] σ E 1)
    (hs : ps n c S σ) (hT : S.2 0 = T) (hpx : md_px S0 S) (hpre : pp_pre n 8 a [] lo p c S) (h : pp_lp T n (pp T n f) 9 8 (kk_sum T n) d a c S = some r) (E : GH → Prop) : ml_V z mX6_sum (D, 1, (fun v σ' _ => pq_N n r v σ'), pq_X S0 r) 6 [(0, vR (some z.2.1)), (1, vI (nI d)), (2, vI (nI a))] [] σ E 1 := by
  have hR0 := hpre.R (by omega)
  have hV := hpre.2.2.2.1
  have hpc := hpre.2.1
  have hcn := hpre.2.2.1
  have hn := hV.1
  have hpa : a + 1 = p := by have h5 := hpre.2.2.2.2; rw [if_pos (by omega)] at h5; exact h5.1
  have hp : S.1 40 = nI (a + 1) := by rw [hpa]; exact hpre.1
  have hla := hR0.2.2.2.1
  unfold pp_lp at h
  have go : ∀ E σ (k : Int32), ps n c S σ → kk_sum T n c = k → k ≠ 0 → ml_V z mX6_sum (D, 1, (fun v σ' _ => pq_N n r v σ'), pq_X S0 r) 40 [(0, vR (some z.2.1)), (1, vI (nI d)), (2, vI (nI a))] [vI k] σ E 1 := by
    intro E σ k hs hk h0
    rw [hk, if_neg h0] at h
    obtain ⟨g1, g2⟩ := kk_sum_ok (T := T) (n := n) (c := c) (by rw [hk]; exact h0)
    rw [hk] at g2
    obtain ⟨t1, s1⟩ := lx_tk g1
    obtain ⟨r1, h1, hx1, h⟩ := pr_b_some h
    refine mbsum_40 (ps_take hs hT (Nat.le_refl 3)) (by show _ ≤ D; omega) (Nat.zero_le _) (ml_kr0 fun σ hs => ?_) ml_no
    refine mbsum_45 (ih.1 9 d _ S σ r1 (20 * (41 - d) + 40 - 9) (by decide) hs hT ⟨_, hp, by omega, by omega, hV⟩ (by omega) h1 (Nat.le_refl _)) (by show _ ≤ D; omega) (Nat.le_refl 1) (pq_kr fun x1 c1 σ he1 hs => ?_) (pq_kx hx1 hpx)
    generalize lx_nz σ = S1 at he1 hs
    have h := h _ _ _ he1
    obtain ⟨hR1, hp1, hV1, hT1, hpx1, ha1, hb1, hd10, he10⟩ := ih.R4 h1 he1 (by omega) hp (by omega) (by omega) hV hT hpx (fun e => absurd e (by omega))
    obtain ⟨r2, h2, hx2, h⟩ := pr_b_some h
    refine mbsum_50 (ps_two hs hp1 (by omega) hV1 (by omega) hR1.2.2.2.2.1 h2 (Nat.le_refl 6)) (by show _ ≤ D; omega) (Nat.le_refl 1) (pq_kr fun x2 c2 σ he2 hs => ?_) (pq_kx hx2 hpx1)
    generalize lx_nz σ = S2 at he2 hs
    replace h := h _ _ _ he2
    subst he2
    obtain ⟨hR2, -⟩ := pp_two (Inv := fun _ => True) pc_cl_T hn hpc hR0 t1 hR1 hV g2 h2 id id
    dsimp only at hR2
    refine mbsum_60 ?_
    exact lp x2 c2 (x2 + 1) S2 σ _ hs (by rw [hR2.1.2 0 (by omega) (by omega) (by omega)]; exact hT) (hpx.tr hR2.1.px) (hR2.pre hpc hV (by omega)) h
  have out : ∀ E σ, ps n c S σ → kk_sum T n c = 0 → ml_V z mX6_sum (D, 1, (fun v σ' _ => pq_N n r v σ'), pq_X S0 r) 64 [(2, vI (nI a))] [] σ E 1 := by
    intro E σ hs hk
    rw [if_pos hk] at h
    exact mbsum_64 (fun G _ => pq_ret h hs)
  have kd : ∀ E σ, ps n c S σ → kk_sum T n c ≠ 0 → ml_V z mX6_sum (D, 1, (fun v σ' _ => pq_N n r v σ'), pq_X S0 r) 24 [(0, vR (some z.2.1)), (1, vI (nI d)), (2, vI (nI a))] [] σ E 1 := by
    intro E σ hs hk
    refine mbsum_24 (ps_peek hs hT (Nat.le_refl 2)) (by show _ ≤ D; omega) (Nat.zero_le _) (ml_krv fun σ ⟨hs, hS⟩ => ?_) ml_no
    refine mbsum_28 (fun q => mbsum_38 (go _ _ _ hs ?_ (by decide))) (fun q => mbsum_33 (go _ _ _ hs ?_ (by decide)))
    · unfold kk_sum at hk ⊢; rw [if_neg q] at hk ⊢; split; rfl; rename_i u; rw [if_neg u] at hk; exact absurd rfl hk
    · rw [kk_sum, if_pos q]
  refine mbsum_6 (ps_peek hs hT (Nat.le_refl 2)) (by show _ ≤ D; omega) (Nat.zero_le _) (ml_krv fun σ ⟨hs, hS⟩ => ?_) ml_no
  refine mbsum_10 (fun q => ?_) (fun q => ?_)
  · exact kd _ _ hs (by rw [kk_sum, if_pos q]; decide)
  · have q1 := q
    refine mbsum_15 (ps_peek hs hT (Nat.le_refl 2)) (by show _ ≤ D; omega) (Nat.zero_le _) (ml_krv fun σ ⟨hs, hS⟩ => ?_) ml_no
    refine mbsum_19 (fun q => ?_) (fun q => ?_)
    · exact out _ _ hs (by rw [kk_sum, if_neg q1, if_neg q])
    · exact kd _ _ hs (by rw [kk_sum, if_neg q1, if_pos q]; decide)
theorem X6_product_L {f D d a c p lo : Nat} {S0 S σ : MS} {r : PE} (ih : pq_IH z T n (pp T n f)) (hw : ml_ws z) (hd : d ≤ 40) (hD : 20 * (41 - d) + 40 - 9 ≤ D) (lp : ∀ a c p S σ E, ps n c S σ → S.2 0 = T → md_px S0 S → pp_pre n 10 a [] lo p c S → pp T n f 10 d a [] c S = some r → ml_V z mX6_product (D, 1, (fun v σ' _ => pq_N n r v σ'), pq_X S0 r) 6 [(0, vR (some z.2.1)), (1, vI (nI d)), (2, vI (nI a))] [] σ E 1)
    (hs : ps n c S σ) (hT : S.2 0 = T) (hpx : md_px S0 S) (hpre : pp_pre n 10 a [] lo p c S) (h : pp_lp T n (pp T n f) 11 10 (kk_prd T n) d a c S = some r) (E : GH → Prop) : ml_V z mX6_product (D, 1, (fun v σ' _ => pq_N n r v σ'), pq_X S0 r) 6 [(0, vR (some z.2.1)), (1, vI (nI d)), (2, vI (nI a))] [] σ E 1 := by
  have hR0 := hpre.R (by omega)
  have hV := hpre.2.2.2.1
  have hpc := hpre.2.1
  have hcn := hpre.2.2.1
  have hn := hV.1
  have hpa : a + 1 = p := by have h5 := hpre.2.2.2.2; rw [if_pos (by omega)] at h5; exact h5.1
  have hp : S.1 40 = nI (a + 1) := by rw [hpa]; exact hpre.1
  have hla := hR0.2.2.2.1
  unfold pp_lp at h
  have go : ∀ E σ (k : Int32), ps n c S σ → kk_prd T n c = k → k ≠ 0 → ml_V z mX6_product (D, 1, (fun v σ' _ => pq_N n r v σ'), pq_X S0 r) 66 [(0, vR (some z.2.1)), (1, vI (nI d)), (2, vI (nI a))] [vI k] σ E 1 := by
    intro E σ k hs hk h0
    rw [hk, if_neg h0] at h
    obtain ⟨g1, g2⟩ := kk_prd_ok (T := T) (n := n) (c := c) (by rw [hk]; exact h0)
    rw [hk] at g2
    obtain ⟨t1, s1⟩ := lx_tk g1
    obtain ⟨r1, h1, hx1, h⟩ := pr_b_some h
    refine mbproduct_66 (ps_take hs hT (Nat.le_refl 3)) (by show _ ≤ D; omega) (Nat.zero_le _) (ml_kr0 fun σ hs => ?_) ml_no
    refine mbproduct_71 (ih.1 11 d _ S σ r1 (20 * (41 - d) + 40 - 11) (by decide) hs hT ⟨_, hp, by omega, by omega, hV⟩ (by omega) h1 (Nat.le_refl _)) (by show _ ≤ D; omega) (Nat.le_refl 1) (pq_kr fun x1 c1 σ he1 hs => ?_) (pq_kx hx1 hpx)
    generalize lx_nz σ = S1 at he1 hs
    have h := h _ _ _ he1
    obtain ⟨hR1, hp1, hV1, hT1, hpx1, ha1, hb1, hd10, he10⟩ := ih.R4 h1 he1 (by omega) hp (by omega) (by omega) hV hT hpx (fun e => absurd e (by omega))
    obtain ⟨r2, h2, hx2, h⟩ := pr_b_some h
    refine mbproduct_76 (ps_two hs hp1 (by omega) hV1 (by omega) hR1.2.2.2.2.1 h2 (Nat.le_refl 6)) (by show _ ≤ D; omega) (Nat.le_refl 1) (pq_kr fun x2 c2 σ he2 hs => ?_) (pq_kx hx2 hpx1)
    generalize lx_nz σ = S2 at he2 hs
    replace h := h _ _ _ he2
    subst he2
    obtain ⟨hR2, -⟩ := pp_two (Inv := fun _ => True) pc_cl_T hn hpc hR0 t1 hR1 hV g2 h2 id id
    dsimp only at hR2
    refine mbproduct_86 ?_
    exact lp x2 c2 (x2 + 1) S2 σ _ hs (by rw [hR2.1.2 0 (by omega) (by omega) (by omega)]; exact hT) (hpx.tr hR2.1.px) (hR2.pre hpc hV (by omega)) h
  have out : ∀ E σ, ps n c S σ → kk_prd T n c = 0 → ml_V z mX6_product (D, 1, (fun v σ' _ => pq_N n r v σ'), pq_X S0 r) 90 [(2, vI (nI a))] [] σ E 1 := by
    intro E σ hs hk
    rw [if_pos hk] at h
    exact mbproduct_90 (fun G _ => pq_ret h hs)
  have kd : ∀ E σ, ps n c S σ → kk_prd T n c ≠ 0 → ml_V z mX6_product (D, 1, (fun v σ' _ => pq_N n r v σ'), pq_X S0 r) 35 [(0, vR (some z.2.1)), (1, vI (nI d)), (2, vI (nI a))] [] σ E 1 := by
    intro E σ hs hk
    refine mbproduct_35 (ps_peek hs hT (Nat.le_refl 2)) (by show _ ≤ D; omega) (Nat.zero_le _) (ml_krv fun σ ⟨hs, hS⟩ => ?_) ml_no
    refine mbproduct_39 (fun q1 => ?_) (fun q => mbproduct_44 (go _ _ _ hs (by rw [kk_prd, if_pos q]) (by decide)))
    refine mbproduct_49 (ps_is hs hT hw (tx := "div") (by simp [lx_words]) (Nat.le_refl 4)) (by show _ ≤ D; omega) (Nat.zero_le _) (ml_krv fun σ ⟨hs, hS⟩ => ?_) ml_no
    refine mbproduct_56 (fun q => mbproduct_64 (go _ _ _ hs ?_ (by decide))) (fun q => mbproduct_59 (go _ _ _ hs ?_ (by decide)))
    · unfold kk_prd at hk ⊢; rw [if_neg q1, if_neg (lx_b0.1 q)] at hk ⊢; split; rfl; rename_i u; rw [if_neg u] at hk; exact absurd rfl hk
    · rw [kk_prd, if_neg q1, if_pos (lx_b1 q)]
  refine mbproduct_6 (ps_peek hs hT (Nat.le_refl 2)) (by show _ ≤ D; omega) (Nat.zero_le _) (ml_krv fun σ ⟨hs, hS⟩ => ?_) ml_no
  refine mbproduct_10 (fun q => ?_) (fun q => ?_)
  · exact kd _ _ hs (by rw [kk_prd, if_pos q]; decide)
  · have q1 := q
    refine mbproduct_15 (ps_is hs hT hw (tx := "div") (by simp [lx_words]) (Nat.le_refl 4)) (by show _ ≤ D; omega) (Nat.zero_le _) (ml_krv fun σ ⟨hs, hS⟩ => ?_) ml_no
    refine mbproduct_22 (fun q => ?_) (fun q => ?_)
    · exact kd _ _ hs (by rw [kk_prd, if_neg q1, if_pos (lx_b1 q)]; decide)
    · have q2 := lx_b0.1 q
      refine mbproduct_25 (ps_is hs hT hw (tx := "mod") (by simp [lx_words]) (Nat.le_refl 4)) (by show _ ≤ D; omega) (Nat.zero_le _) (ml_krv fun σ ⟨hs, hS⟩ => ?_) ml_no
      refine mbproduct_32 (fun q => ?_) (fun q => ?_)
      · exact out _ _ hs (by rw [kk_prd, if_neg q1, if_neg q2, if_neg (lx_b0.1 q)])
      · exact kd _ _ hs (by rw [kk_prd, if_neg q1, if_neg q2, if_pos (lx_b1 q)]; decide)
theorem X6_either_W {f d c D : Nat} {S σ : MS} {r : PE} (ih : pq_IH z T n (pp T n f)) (lp : ∀ S0 lo a c p S σ E, ps n c S σ → S.2 0 = T → md_px S0 S → pp_pre n 3 a [] lo p c S → pp T n f 3 d a [] c S = some r → ml_V z mX6_either (D, 1, (fun v σ' _ => pq_N n r v σ'), pq_X S0 r) 6 [(0, vR (some z.2.1)), (1, vI (nI d)), (2, vI (nI a))] [] σ E 1)
    (hs : ps n c S σ) (hT : S.2 0 = T) (hpre : pq_pre n c S) (hd : d ≤ 40) (h : pp_fst (pp T n f) 4 3 d c S = some r) (hD : 20 * (41 - d) + 40 - 2 ≤ D) : ml_C z mX6_either D 1 [vR (some z.2.1), vI (nI d)] σ (fun v σ' _ => pq_N n r v σ') (pq_X S r) := by
  obtain ⟨p, hp, hpc, hcn, hV⟩ := hpre
  have hn := hV.1
  have hpx : md_px S S := md_px.rf
  refine ml_C_of (by decide) rfl (Nat.le_of_ble_eq_true rfl) ?_
  unfold pp_fst at h
  obtain ⟨r1, h1, hx1, h⟩ := pr_b_some h
  refine mbeither_0 (ih.1 4 d _ S σ r1 (20 * (41 - d) + 40 - 4) (by decide) hs hT ⟨_, hp, by omega, by omega, hV⟩ (by omega) h1 (Nat.le_refl _)) (by show _ ≤ D; omega) (Nat.le_refl 1) (pq_kr fun x1 c1 σ he1 hs => ?_) (pq_kx hx1 hpx)
  generalize lx_nz σ = S1 at he1 hs
  have h := h _ _ _ he1
  obtain ⟨hR1, hp1, hV1, hT1, hpx1, ha1, hb1, hd10, he10⟩ := ih.R4 h1 he1 (by omega) hp (by omega) (by omega) hV hT hpx (fun e => absurd e (by omega))
  refine mbeither_5 ?_
  exact lp S p x1 c1 (x1 + 1) S1 σ _ hs hT1 hpx1 (hR1.pre hpc hV (by omega)) h
theorem X6_both_W {f d c D : Nat} {S σ : MS} {r : PE} (ih : pq_IH z T n (pp T n f)) (lp : ∀ S0 lo a c p S σ E, ps n c S σ → S.2 0 = T → md_px S0 S → pp_pre n 5 a [] lo p c S → pp T n f 5 d a [] c S = some r → ml_V z mX6_both (D, 1, (fun v σ' _ => pq_N n r v σ'), pq_X S0 r) 6 [(0, vR (some z.2.1)), (1, vI (nI d)), (2, vI (nI a))] [] σ E 1)
    (hs : ps n c S σ) (hT : S.2 0 = T) (hpre : pq_pre n c S) (hd : d ≤ 40) (h : pp_fst (pp T n f) 6 5 d c S = some r) (hD : 20 * (41 - d) + 40 - 4 ≤ D) : ml_C z mX6_both D 1 [vR (some z.2.1), vI (nI d)] σ (fun v σ' _ => pq_N n r v σ') (pq_X S r) := by
  obtain ⟨p, hp, hpc, hcn, hV⟩ := hpre
  have hn := hV.1
  have hpx : md_px S S := md_px.rf
  refine ml_C_of (by decide) rfl (Nat.le_of_ble_eq_true rfl) ?_
  unfold pp_fst at h
  obtain ⟨r1, h1, hx1, h⟩ := pr_b_some h
  refine mbboth_0 (ih.1 6 d _ S σ r1 (20 * (41 - d) + 40 - 6) (by decide) hs hT ⟨_, hp, by omega, by omega, hV⟩ (by omega) h1 (Nat.le_refl _)) (by show _ ≤ D; omega) (Nat.le_refl 1) (pq_kr fun x1 c1 σ he1 hs => ?_) (pq_kx hx1 hpx)
  generalize lx_nz σ = S1 at he1 hs
  have h := h _ _ _ he1
  obtain ⟨hR1, hp1, hV1, hT1, hpx1, ha1, hb1, hd10, he10⟩ := ih.R4 h1 he1 (by omega) hp (by omega) (by omega) hV hT hpx (fun e => absurd e (by omega))
  refine mbboth_5 ?_
  exact lp S p x1 c1 (x1 + 1) S1 σ _ hs hT1 hpx1 (hR1.pre hpc hV (by omega)) h
theorem X6_sum_W {f d c D : Nat} {S σ : MS} {r : PE} (ih : pq_IH z T n (pp T n f)) (lp : ∀ S0 lo a c p S σ E, ps n c S σ → S.2 0 = T → md_px S0 S → pp_pre n 8 a [] lo p c S → pp T n f 8 d a [] c S = some r → ml_V z mX6_sum (D, 1, (fun v σ' _ => pq_N n r v σ'), pq_X S0 r) 6 [(0, vR (some z.2.1)), (1, vI (nI d)), (2, vI (nI a))] [] σ E 1)
    (hs : ps n c S σ) (hT : S.2 0 = T) (hpre : pq_pre n c S) (hd : d ≤ 40) (h : pp_fst (pp T n f) 9 8 d c S = some r) (hD : 20 * (41 - d) + 40 - 7 ≤ D) : ml_C z mX6_sum D 1 [vR (some z.2.1), vI (nI d)] σ (fun v σ' _ => pq_N n r v σ') (pq_X S r) := by
  obtain ⟨p, hp, hpc, hcn, hV⟩ := hpre
  have hn := hV.1
  have hpx : md_px S S := md_px.rf
  refine ml_C_of (by decide) rfl (Nat.le_of_ble_eq_true rfl) ?_
  unfold pp_fst at h
  obtain ⟨r1, h1, hx1, h⟩ := pr_b_some h
  refine mbsum_0 (ih.1 9 d _ S σ r1 (20 * (41 - d) + 40 - 9) (by decide) hs hT ⟨_, hp, by omega, by omega, hV⟩ (by omega) h1 (Nat.le_refl _)) (by show _ ≤ D; omega) (Nat.le_refl 1) (pq_kr fun x1 c1 σ he1 hs => ?_) (pq_kx hx1 hpx)
  generalize lx_nz σ = S1 at he1 hs
  have h := h _ _ _ he1
  obtain ⟨hR1, hp1, hV1, hT1, hpx1, ha1, hb1, hd10, he10⟩ := ih.R4 h1 he1 (by omega) hp (by omega) (by omega) hV hT hpx (fun e => absurd e (by omega))
  refine mbsum_5 ?_
  exact lp S p x1 c1 (x1 + 1) S1 σ _ hs hT1 hpx1 (hR1.pre hpc hV (by omega)) h
theorem X6_product_W {f d c D : Nat} {S σ : MS} {r : PE} (ih : pq_IH z T n (pp T n f)) (lp : ∀ S0 lo a c p S σ E, ps n c S σ → S.2 0 = T → md_px S0 S → pp_pre n 10 a [] lo p c S → pp T n f 10 d a [] c S = some r → ml_V z mX6_product (D, 1, (fun v σ' _ => pq_N n r v σ'), pq_X S0 r) 6 [(0, vR (some z.2.1)), (1, vI (nI d)), (2, vI (nI a))] [] σ E 1)
    (hs : ps n c S σ) (hT : S.2 0 = T) (hpre : pq_pre n c S) (hd : d ≤ 40) (h : pp_fst (pp T n f) 11 10 d c S = some r) (hD : 20 * (41 - d) + 40 - 9 ≤ D) : ml_C z mX6_product D 1 [vR (some z.2.1), vI (nI d)] σ (fun v σ' _ => pq_N n r v σ') (pq_X S r) := by
  obtain ⟨p, hp, hpc, hcn, hV⟩ := hpre
  have hn := hV.1
  have hpx : md_px S S := md_px.rf
  refine ml_C_of (by decide) rfl (Nat.le_of_ble_eq_true rfl) ?_
  unfold pp_fst at h
  obtain ⟨r1, h1, hx1, h⟩ := pr_b_some h
  refine mbproduct_0 (ih.1 11 d _ S σ r1 (20 * (41 - d) + 40 - 11) (by decide) hs hT ⟨_, hp, by omega, by omega, hV⟩ (by omega) h1 (Nat.le_refl _)) (by show _ ≤ D; omega) (Nat.le_refl 1) (pq_kr fun x1 c1 σ he1 hs => ?_) (pq_kx hx1 hpx)
  generalize lx_nz σ = S1 at he1 hs
  have h := h _ _ _ he1
  obtain ⟨hR1, hp1, hV1, hT1, hpx1, ha1, hb1, hd10, he10⟩ := ih.R4 h1 he1 (by omega) hp (by omega) (by omega) hV hT hpx (fun e => absurd e (by omega))
  refine mbproduct_5 ?_
  exact lp S p x1 c1 (x1 + 1) S1 σ _ hs hT1 hpx1 (hR1.pre hpc hV (by omega)) h
end
