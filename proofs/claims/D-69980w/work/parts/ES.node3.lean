/-! THE COMPONENT's PARSER: node -/
set_option maxRecDepth 100000
section
variable {q : PZ} {S S' S5 S6 S7 : MS} {G G' G00 G7 : GH} {Ln cn hN c c' c6 t : Nat} {TP TC TA A P Qn L : Nat → Nat} {d : Nat → ND}
theorem nd_tx2 {T : Nat → Int32} {n f c1 e5 c5 e6 f0 f1 : Nat} (h : nd_I n c S) (hT : S.2 0 = T) (h1 : c ≤ c1) (h2 : c1 ≤ n) (h3 : nd_hd T n f (lx_next T n c1) (nd_0 S c1 (lx_end T n c1)) = some (.inr (e5, c5, S5))) (h4 : lx_isW T n c5 "let") (h6 : pe_eqs T n f0 f1 (lx_next T n c5) (nd_3 S5) = some (.inr (e6, c6, S6))) :
    (∀ g, g < pr_N S → S6.2 12 g = S.2 12 g ∧ S6.2 13 g = S.2 13 g ∧ S6.2 14 g = S.2 14 g) ∧ (∀ v, v < pr_v S → S6.2 24 v = S.2 24 v) ∧ c1 ≤ c5 ∧ c5 + 1 ≤ lx_next T n c5 ∧ lx_next T n c5 + 1 ≤ c6 ∧ pr_v S ≤ pr_v S5 := by
  obtain ⟨q1, q2, q3, q4, hM⟩ := nd_B h hT h1 h2 h3 h4
  obtain ⟨hM6, b4, b5, b6, b7, b8⟩ := nd_C hM h6
  have eN5 : pr_N S5 = pr_N S := q2.N
  have hve : pr_v S ≤ pr_v S5 := by
    obtain ⟨-, -, -, -, -, i, o, -, -, -, -, -, g, -⟩ := hM
    have : pr_v (nd_3 S5) = pr_v S5 := rfl
    omega
  refine ⟨fun g hg => ⟨?_, ?_, ?_⟩, fun v hv => ?_, q1, (lx_tkw h4).1, b4, hve⟩
  · rw [b5.2 12 (by omega) (by omega) (by omega) (by omega) (by omega), nd_3_12, eN5, if_neg (by omega), q2.2.1 12 (by omega) (by omega), nd_0_2, if_neg (by omega), if_neg (by omega), if_neg (by omega)]
  · rw [b5.2 13 (by omega) (by omega) (by omega) (by omega) (by omega), nd_3_o (by omega) (by omega), q2.2.2.1 13 g (by omega) (by show g ≠ pr_N S; omega), nd_0_2, if_neg (by omega), if_neg (by omega), if_neg (by omega)]
  · rw [b5.2 14 (by omega) (by omega) (by omega) (by omega) (by omega), nd_3_o (by omega) (by omega), q2.2.2.1 14 g (by omega) (by show g ≠ pr_N S; omega), nd_0_2, if_neg (by omega), if_neg (by omega), if_neg (by omega)]
  · rw [b5.2 24 (by omega) (by omega) (by omega) (by omega) (by omega), nd_3_o (by omega) (by omega), q2.2.2.2 24 v (by omega) hv, nd_0_2, if_neg (by omega), if_neg (by omega), if_neg (by omega)]
theorem nhZ {dd : ND} {q6 : PZ} {f a a' i o k0 k1 l' lo hi : Nat} (h : ndZ q S dd TP TC TA f a a' k0 k1 l' lo hi G) (h13 : S.2 13 f = nI i) (h14 : S.2 14 f = nI o) (g12 : S6.2 12 f = nI a) (g13 : S6.2 13 f = S.2 13 f) (g14 : S6.2 14 f = S.2 14 f) (e24 : ∀ v, v < a' → S6.2 24 v = S.2 24 v) (hb : a + i + o ≤ a' ∧ a' ≤ 6000) (e6 : q6.1 = q.1 ∧ ∀ g, qN q6 g = qN q g) : nh q6 S6 G f := by
  obtain ⟨⟨d1, d2⟩, ⟨⟨z1, z2, z3⟩, ⟨L, c, z4, z5, z6⟩, -, -, -, z8, -⟩, hag, -⟩ := h
  have j13 : jg_n (S.2 13 f) = i := by rw [h13]; exact nI_clamp (by omega)
  have j14 : jg_n (S.2 14 f) = o := by rw [h14]; exact nI_clamp (by omega)
  have j12 : jg_n (S6.2 12 f) = a := by rw [g12]; exact nI_clamp (by omega)
  have d1' : dd.1.1 = q6.1 := d1.trans e6.1.symm
  rw [d1'] at z6
  refine ⟨⟨by rw [e6.2]; exact z1, by rw [e6.2, z2, j13, g13, h13], by rw [e6.2, z3, j14, g14, h14]⟩, L, c, a' - a, fun j => qV dd.1 (a + j), by rw [e6.2]; exact z4, z6, by rw [g13, g14, j13, j14]; omega, fun j hj => ?_⟩
  obtain ⟨⟨v1, v2, -⟩, -⟩ := z8 (a + j) (Nat.le_add_right _ _) (by omega)
  rw [d1'] at v2
  exact ⟨v1, by rw [v2, j12, e24 (a + j) (by omega), hag.1 24 (a + j) (Or.inr rfl) (by omega)]⟩
/-- a name that isn't there -/
theorem nd_fresh {T : Nat → Int32} {n f : Nat} {r : Nat × Nat × MS} (h : nd T n f c S = some (.inr r)) (hT : S.2 0 = T) (hn : n ≤ 5000) : (∀ j, j < pr_N S → nln T S j ≠ wd T (lx_next T n c) (lx_end T n (lx_next T n c))) ∧ pr_N S ≠ 59 := by
  unfold nd at h
  by_cases g1 : lx_isW T n c "node"
  · rw [if_pos g1] at h
    by_cases g2 : pr_N S = 59
    · rw [if_pos g2] at h; cases h
    · rw [if_neg g2] at h
      by_cases g3 : lx_name T n (lx_next T n c)
      · rw [if_pos g3] at h
        by_cases g4 : pr_fn n S (lx_next T n c) < pr_N S
        · rw [if_pos g4] at h; cases h
        · refine ⟨fun j hj e => ?_, g2⟩
          have hm := mpf_n (T := T) (n := n) (c := lx_next T n c) (V := fun _ => 0) hT g3.1 hn
          rw [if_neg g4] at hm
          unfold mpf at hm
          by_cases g5 : lx_find (fun i => decide (nln T S i = wd T (lx_next T n c) (lx_end T n (lx_next T n c)))) 0 (pr_N S) < pr_N S
          · rw [if_pos g5] at hm; cases hm
          · obtain ⟨-, -, s3, -⟩ := lx_find_spec (P := fun i => decide (nln T S i = wd T (lx_next T n c) (lx_end T n (lx_next T n c)))) (b := pr_N S) (pr_N S) 0 (by omega) (Nat.zero_le _)
            have := s3 j (Nat.zero_le _) (by omega)
            rw [decide_eq_true e] at this
            cases this
      · rw [if_neg g3] at h; cases h
  · rw [if_neg g1] at h; cases h
theorem ndl_alo {k L Le : Nat} (h : ndl q G00 G t k L) (hLe : ow G Le t) (kLe : hp_kd G Le = 22) (hne : L ≠ Le) (kt : hp_kd G t = 8) (hf : rx q.1 (al_o G Le) G G') (hR : hp_kd G q.1.2.1 = 12) (hB : hp_kd G q.1.2.2.2.1 = 3) : ndl q G00 G' t k L := by
  obtain ⟨a1, a2, a3, a4⟩ := h
  have kL := a4.1.1
  have nt : ¬ al_o G Le t := fun u => by have := al_ok u kLe; omega
  obtain ⟨-, e2, -⟩ := hf.old hR hB (x := t) (by rw [kt]; decide) nt (by rw [kt]; decide)
  refine ⟨by rw [e2]; exact a1, a2, a3.cg (hf.1.lg (by rw [kL]; decide)), a4.fr hf.1 ?_ (fun y hy0 hy => ?_)⟩
  · rintro ((u | ⟨-, u⟩) | u | u | u)
    · exact hne u
    · rw [kL] at u; cases u
    · rw [u, hR] at kL; cases kL
    · rw [u, hB] at kL; cases kL
    · rw [u] at kL; cases kL
  · rintro ((u | ⟨u, -⟩) | u | u | u)
    · rw [u, kLe] at hy; cases hy
    · exact hne (hy0.uq u)
    · rw [u, hR] at hy; cases hy
    · rw [u, hB] at hy; cases hy
    · rw [u] at hy; cases hy
theorem al_c100 {n c : Nat} (hn : n ≤ 58) (h : n ≤ c) (h2 : c ≤ 100) : al_c n c ≤ 100 := by
  unfold al_c
  split
  · exact h2
  · split
    · omega
    · omega
theorem al_b9 {n c : Nat} (hn : n ≤ 58) (h : n ≤ c) (h2 : c ≤ 100) : al_b n c ≤ 9 := by
  have := al_c100 hn h h2
  unfold al_b
  split <;> omega
theorem wvn_274 {m : Nat} (h : m ≤ 99) : wvn m ≤ 274 * m := by
  unfold wvn
  have := Nat.mul_le_mul_left (2 * m) h
  omega
theorem lx_w4 {T : Nat → Int32} {n c : Nat} {tx : String} (h : lx_isW T n c tx) : c + tx.length ≤ lx_next T n c := by
  have h1 := lx_kind_lt (T := T) (n := n) (c := c) (by rw [h.1]; decide)
  have h2 := lx_end_le (T := T) (Nat.le_of_lt h1)
  have h3 := lx_skip_ge (T := T) (n := n) n (lx_end T n c) (by omega) h2.2
  have h4 := h.2.1
  unfold lx_next
  omega
/-- a node has 13 bytes -/
theorem nd_13 {T : Nat → Int32} {n f e5 c5 f0 f1 e6 : Nat} {r : Nat × Nat × MS} (h : nd T n f c S = some (.inr r)) (hI : nd_I n c S) (hT : S.2 0 = T) (h3 : nd_hd T n f (lx_next T n (lx_next T n c)) (nd_0 S (lx_next T n c) (lx_end T n (lx_next T n c))) = some (.inr (e5, c5, S5))) (h4 : lx_isW T n c5 "let") (h6 : pe_eqs T n f0 f1 (lx_next T n c5) (nd_3 S5) = some (.inr (e6, c6, S6))) (hc : c ≤ n) : c + 13 ≤ lx_next T n c6 := by
  unfold nd at h
  by_cases g1 : lx_isW T n c "node"
  · rw [if_pos g1] at h
    by_cases g2 : pr_N S = 59
    · rw [if_pos g2] at h; cases h
    · rw [if_neg g2] at h
      by_cases g3 : lx_name T n (lx_next T n c)
      · obtain ⟨n1, n2⟩ := lx_next_ge (T := T) hc
        obtain ⟨-, -, -, -, hM⟩ := nd_B hI hT n1 n2 h3 h4
        obtain ⟨-, b4, -, -, b7, -⟩ := nd_C hM h6
        obtain ⟨hI0, ha0, px0⟩ := nd_A (T := T) hI n1 n2
        have k5 := (nd_hd_ok h3 hI0 ((px0.2 0 (Or.inl rfl)).trans hT) ha0).2.2.1
        have k1 := (lx_tkn g3).1
        have w1 := lx_w4 g1
        have w2 := lx_w4 h4
        have w3 := lx_w4 b7
        have e1 : "node".length = 4 := rfl
        have e2 : "let".length = 3 := rfl
        have e3 : "tel".length = 3 := rfl
        omega
      · rw [if_neg g3] at h; cases h
  · rw [if_neg g1] at h; cases h
theorem nd_cost {n c c1 c6 c7 p p6 N ab W w m : Nat} (h1 : c ≤ c1) (h2 : c1 ≤ c6) (h3 : c6 ≤ n) (h4 : c6 ≤ c7) (h5 : c + 13 ≤ c7) (h6 : p ≤ p6) (h7 : p6 ≤ c6) (h8 : w ≤ W) (h9 : w ≤ 274 * m) (h10 : ab ≤ 9) (h11 : N ≤ 58) : 20 * (n - c) + 60 + W + (2 * n + 20 + (5 * (n - p) + 296)) - (22 * (n - c6) + 30 + (5 * (n - p) + 296 + (W - w) + 2 * c1) - ((p6 - p) + (4 * (p6 - p) + 30)) - (10 + ab + (70 + 3 * N))) ≤ 49 * (c7 - c) + 274 * m + 5 * (p6 - p) := by
  omega
/-- what node leaves -/
def ndP (q : PZ) (c : Nat) (S : MS) (d : Nat → ND) (Ln cn hN : Nat) (G : GH) (r : PE) (v : Option WV) (G' : GH) : Prop :=
  v = none ∧ ∃ c' S' t de TP' TC' TA' A' P' Qn' L', r = .inr (0, c', S') ∧ rdZ (qA q (pr_N S) t) c' S' (hp_u1 d (pr_N S) de) TP' TC' TA' A' P' Qn' L' Ln (al_c (pr_N S) cn) hN G' ∧ (rx q.1 (fun y => al_o G Ln y ∨ hm_o G hN y) G G' ∧ rkk q.1 G G') ∧ c + 13 ≤ c' ∧ cb (49 * (c' - c) + 274 * (pr_v S' - pr_v S) + 5 * (pr_p S' - pr_p S)) G G'
/-- what it may use -/
def ndB (q : PZ) (c : Nat) (S : MS) : Nat := 20 * (rz_n q.1 - c) + 60 + wvn (min 99 (rz_n q.1 - pr_v S)) + (2 * rz_n q.1 + 20 + (5 * (rz_n q.1 - pr_p S) + 296))
theorem X3_node_C {f D : Nat} {r : PE} (hcmp : cmp_o q.1.1) (hD : 906 ≤ D) (h : rdZ q c S d TP TC TA A P Qn L Ln cn hN G) (hr : nd (rz_T q.1) (rz_n q.1) f c S = some r) :
    wk_C q.1.1 mX3_node D (ndB q c S) [vR (some q.1.2.1)] G (ndP q c S d Ln cn hN G r) (xq_X q G r) := by
  obtain ⟨h0, hsn, ⟨hI, hnfs⟩, hnT, ⟨hcap, hbd⟩, hz⟩ := id h
  have hR := h0.1.1.1.1
  have hB := h0.1.1.2.1.1
  refine wk_C_of (by decide) rfl (Nat.le_of_ble_eq_true rfl) ?_
  refine X3_node_st (A := 5 * (rz_n q.1 - pr_p S) + 296) hcmp (by show 902 ≤ D; omega) hsn hI h0 hr (fun t vk c5 S5 G1 c1 c6 S6 X6 Mf Q G6 ce Lv hv cv Le Lc Lm Lr i o r6 hhd hlet hen h6 ec1 ht0 hA hM hd1 hF1 hI6 hr6 => ?_) (by show _ ≤ ndB q c S; unfold ndB; omega)
  obtain ⟨eh, hhd⟩ := hhd
  obtain ⟨e6, h6⟩ := h6
  subst ec1
  have hcle : c ≤ rz_n q.1 := h0.1.2.1
  obtain ⟨n1, n2⟩ := lx_next_ge (T := rz_T q.1) hcle
  obtain ⟨⟨x1, x2, x3, x4⟩, x5, ⟨x6, x7, x8, x9, x10⟩, ⟨x11, x12⟩, x13⟩ := nd_tx hI h0.2.2.1 n1 n2 hhd hlet h6
  obtain ⟨y1, y2, y3, y4, y5, y6⟩ := nd_tx2 hI h0.2.2.1 n1 n2 hhd hlet h6
  have hpr5 : ∀ e, e < pr_p S5 → S5.2 38 e = nI (e + 1 - lw (S5.2 34) e) := fun e he => by
    rw [x5 38 (by omega) (by omega), x5 34 (by omega) (by omega)]
    exact hnfs.2.2.2 e (by rw [← x3]; exact he)
  have hR1 := hd1.1.1.1.1
  have hB1 := hd1.1.1.2.1.1
  have kt1 : hp_kd G1 t = 8 := hd1.2.1.2.1.1
  obtain ⟨l1, l2, l3, l4, hnod⟩ := hd1.2.2.2.2.2.1
  obtain ⟨Pp, Lf, kq, hH⟩ := nd_fnH (q := qT q t) (vk := vk) hM hpr5 hd1.2.2.2.1.2.1 hd1.2.2.2.1.2.2 h6 hI6.2.2.2.1 hF1.1 hF1.2.1.1 hF1.2.2.2.1 hF1.2.2.2.2.1 hF1.2.2.2.2.2
  have rx6 : rx q.1 (al_o G1 Le) G1 G6 := hI6.2.2.2.2.2.2.2.2.1
  obtain ⟨nm, hnm1, hnm2⟩ := hd1.2.2.2.2.2.2
  have nt : ¬ al_o G1 Le t := fun u => by have := al_ok u l1.2.2.2.1.1; omega
  obtain ⟨-, et, -⟩ := rx6.old hR1 hB1 (x := t) (by rw [kt1]; decide) nt (by rw [kt1]; decide)
  have hnd' : Lv ≠ Le ∧ Lc ≠ Le ∧ Lm ≠ Le ∧ Lr ≠ Le := by
    simp only [List.nodup_cons, List.mem_cons, List.not_mem_nil, or_false, not_or] at hnod
    obtain ⟨⟨w1, w2, w3, w4⟩, ⟨w5, w6, w7⟩, -⟩ := hnod
    exact ⟨w1, fun u => w5 u.symm, fun u => w6 u.symm, fun u => w7 u.symm⟩
  have hB6 : fnB (qS (qVK (qT q t) vk) Mf) S6 X6 (pr_p S5) G Lc Lm Lr (wd (rz_T q.1) (lx_next (rz_T q.1) (rz_n q.1) c) (lx_end (rz_T q.1) (rz_n q.1) (lx_next (rz_T q.1) (rz_n q.1) c))) c6 G6 :=
    ⟨hI6.1.2.2.1, ⟨ndl_alo (q := q) l2 l1.2.2.1 l1.2.2.2.1.1 hnd'.2.1 kt1 rx6 hR1 hB1, ndl_alo (q := q) l3 l1.2.2.1 l1.2.2.2.1.1 hnd'.2.2.1 kt1 rx6 hR1 hB1, ndl_alo (q := q) l4 l1.2.2.1 l1.2.2.2.1.1 hnd'.2.2.2 kt1 rx6 hR1 hB1⟩, ⟨nm, by show hp_r G6 t 0 = _; rw [et]; exact hnm1, rx6.2.2 _ _ hnm2⟩, hI6.1.1⟩
  have ea6 : pr_a S6 = pr_a S5 := by rw [x7, x4]
  have hfn := fn_start (R := fnB (qS (qVK (qT q t) vk) Mf) S6 X6 (pr_p S5) G Lc Lm Lr (wd (rz_T q.1) (lx_next (rz_T q.1) (rz_n q.1) c) (lx_end (rz_T q.1) (rz_n q.1) (lx_next (rz_T q.1) (rz_n q.1) c))) c6) hB6 hI6 hR1 hB1 kt1 ⟨l1.2.2.1, l1.2.2.2.1.1⟩ hnd'.1 hd1.2.2.1 ea6 x8 rfl hH.2.1.1
  have hnh : ∀ g, g < pr_N S6 → nh (qS (qVK (qT q t) vk) Mf) S6 G g := fun g hg => by
    have hg' : g < pr_N S := by rw [← x6]; exact hg
    obtain ⟨ig, og, ⟨b1, b2, b3, b4, -⟩, ⟨d1, d2, d3, d4, d5, d6, -⟩, -⟩ := hnfs.2.1 g hg'
    exact nhZ (hz g hg') b3 b4 ((y1 g hg').1.trans b1) (y1 g hg').2.1 (y1 g hg').2.2 (fun v hv => y2 v (by have := (hbd g hg').1; omega)) ⟨d3, d6⟩ ⟨rfl, fun _ => rfl⟩
  have hlo : pr_p S5 ≤ pr_p S6 := hH.2.2.2.2.2.1
  have hpn : pr_p S6 ≤ c6 ∧ c6 ≤ rz_n q.1 := ⟨hI6.2.1.1.2.2.2.2.1, hI6.1.1.2.1⟩
  have hc5 : c ≤ lx_next (rz_T q.1) (rz_n q.1) c5 ∧ lx_next (rz_T q.1) (rz_n q.1) c5 ≤ c6 := ⟨by omega, by omega⟩
  have hC : wk_C q.1.1 mX3_finish 640 ((pr_p S6 - pr_p S5) + (4 * (pr_p S6 - pr_p S5) + 30)) [vR (some q.1.2.1), vI (nI c6)] G6 (fiP (qS (qVK (qT q t) vk) Mf) S6 X6 Q kq (pr_k S5) (pr_p S5) i o TP TC TA (wd (rz_T q.1) (lx_next (rz_T q.1) (rz_n q.1) c) (lx_end (rz_T q.1) (rz_n q.1) (lx_next (rz_T q.1) (rz_n q.1) c))) c6 G) (xq_X q G r) :=
    X3_finish_C (q := qS (qVK (qT q t) vk) Mf) (Nat.le_refl 640) hsn hH hF1.2.2.1 hnh (fun g hg => hnT g (by rw [← x6]; exact hg)) hI6.2.2.1.2.2 hR hB hnod hen hfn
  have hN60 := hI.1.1.N.2.1
  have hn5 : rz_n q.1 ≤ 5000 := h0.1.1.2.2.2.1
  refine wk_less hr6 ?_
  refine blX3_node_250 hI6.1.1.1.1.1 (by rw [hI6.1.1.2.2.1]; exact hC) (by show 640 + 1 ≤ D; omega) (by omega) ?_ (fun E a G' u => wk_out0 rfl u)
  clear hC
  rintro v G7 ⟨rfl, hgv, S7, F, hj, hE, hfc⟩
  obtain ⟨⟨z1, z2, z3, z4, z5, z6⟩, z7⟩ := x13 S7 hj
  unfold nd_en at hen
  rw [if_pos hgv, hj] at hen
  have hr' : r = .inr (0, lx_next (rz_T q.1) (rz_n q.1) c6, ml_sf S7 18 (nI (pr_N S7 + 1))) := (Option.some.inj hen).symm
  clear hen
  subst hr'
  obtain ⟨s1, s2, ⟨s3, s4, s5, s6⟩, s7, s8⟩ := nfs.step hr hI h0.2.2.1 hnfs
  obtain ⟨hfr, hne⟩ := nd_fresh hr h0.2.2.1 hn5
  have hle6 := lx_end_le (T := rz_T q.1) n2
  have h13 := nd_13 hr hI h0.2.2.1 hhd hlet h6 hcle
  have hb9 := al_b9 (n := pr_N S) (c := cn) (by omega) h0.2.2.2.1.2.2.1.1 hcap
  have hw274 := wvn_274 (m := pr_v S5 - pr_a S5) (by have := hd1.2.2.2.1.2.1.1; omega)
  have hw5 : wvn (pr_v S5 - pr_a S5) ≤ wvn (min 99 (rz_n q.1 - pr_v S)) := wvn_le (by have := hd1.2.2.2.1.2.1.1; have := hd1.2.2.2.1.1.2.1; have := hd1.1.2.1; omega)
  refine X3_node_tail (S := S) (S' := ml_sf S7 18 (nI (pr_N S7 + 1))) (r2 := _) hcmp (by omega) h0 ht0 (by omega) hfr hE (s2.2.2.2.2.2.2.2.trans h0.2.2.1) s8 (fun j hj' => ?_) ?_ ?_ ?_ (fun G' hns hz' hi' fx kk hc => ?_)
  · unfold nln
    rw [s2.1 10 j (Or.inl rfl) hj', s2.1 11 j (Or.inr (Or.inl rfl)) hj']
  · unfold nln
    show wd _ (S7.2 10 (pr_N S)).toNatClampNeg ((S7.2 10 (pr_N S)).toNatClampNeg + (S7.2 11 (pr_N S)).toNatClampNeg) = _
    rw [z7 10 (by omega) (by omega) (by omega), z7 11 (by omega) (by omega) (by omega), x11, x12, nI_clamp (by omega), nI_clamp (by omega), show ∀ a b : Nat, a ≤ b → a + (b - a) = b from fun a b h => by omega]
    exact hle6.1
  · omega
  · show _ ≤ ndB q c S
    unfold ndB
    omega
  · have hv5 : pr_v S5 ≤ 6000 := hd1.2.2.2.1.1.1.N.2.2.2.1
    have hio := hF1.1
    have hs := hE.2.1
    rw [x2, x3] at hs hz'
    have g13 : S7.2 13 (pr_N S) = nI i := by
      rw [z7 13 (by omega) (by omega) (by omega), x9, ← x1]; exact hF1.2.1.1
    have g14 : S7.2 14 (pr_N S) = nI o := by
      rw [z7 14 (by omega) (by omega) (by omega), x10, ← x1]; exact hF1.2.1.2
    have gkq : ∀ k, pr_k S ≤ k → k < pr_k S7 → ∀ x, jg_n (S7.2 29 k) ≤ x → x ≤ jg_n (S7.2 27 k) → kq x = k := fun k k1 k2 x w1 w2 => by
      rw [z7 29 (by omega) (by omega) (by omega)] at w1
      rw [z7 27 (by omega) (by omega) (by omega)] at w2
      obtain ⟨⟨f1, f2, f3, f4⟩, -, -, -, ⟨f5, -⟩, -⟩ := hH
      rw [← x2] at k1
      rw [z4] at k2
      obtain ⟨cc, w, w5, w6, w7⟩ := f3 k k1 k2
      have w8 : pr_p (nd_4 S6) = pr_p S6 := rfl
      have hlt := w.2.2.2.2.1
      have e29 : jg_n (S6.2 29 k) = Pp k := by rw [show S6.2 29 k = nI (Pp k) from w.2.2.1]; exact nI_clamp (by omega)
      have e27 : jg_n (S6.2 27 k) = Pp (k + 1) - 1 := by rw [show S6.2 27 k = nI (Pp (k + 1) - 1) from w.2.2.2.1]; exact nI_clamp (by omega)
      rw [e29] at w1
      rw [e27] at w2
      exact f5 k k1 k2 x w1 (by omega)
    have gcal : ∀ x, pr_p S ≤ x → x < pr_p S7 → S7.2 32 x = 3 → jg_n (S7.2 33 x) < pr_N S := fun x w1 w2 w3 => by
      rw [z7 32 (by omega) (by omega) (by omega)] at w3
      rw [z7 33 (by omega) (by omega) (by omega), ← x6]
      exact hH.2.2.2.1 x (by rw [x3]; exact w1) (by rw [← z5]; exact w2) w3
    obtain ⟨TP', TC', TA', A', P', Qn', L', hrd⟩ := rdZ.add (S7 := S7) (i := i) (o := o) (t := t) (q6 := qS (qVK (qT q t) vk) Mf) (X := X6) (Q := Q) (F := F) (kq := kq) h hr rfl z2 fx.1 (fun y _ u => no_fzc h0 u) hns (al_c100 (by omega) h0.2.2.2.1.2.2.1.1 hcap) hz' ⟨rfl, fun _ => rfl⟩ ⟨g13, g14, by omega, by omega⟩ (by rw [hi']; exact hs) (fun k k1 k2 => hfc k (by rw [x2]; exact k1) (by rw [← z4]; exact k2)) gkq gcal
    refine ⟨rfl, _, _, t, _, TP', TC', TA', A', P', Qn', L', rfl, hrd, ⟨⟨fx.1.nrm hsn, fx.2⟩, kk⟩, h13, ?_⟩
    have hgt : c6 ≤ lx_next (rz_T q.1) (rz_n q.1) c6 := (lx_next_ge hpn.2).1
    have e1 : pr_v (ml_sf S7 18 (nI (pr_N S7 + 1))) = pr_v S5 := z3
    have e2 : pr_p (ml_sf S7 18 (nI (pr_N S7 + 1))) = pr_p S6 := z5
    rw [e1, e2]
    rw [x4] at hc hw5 hw274
    rw [x3] at hc
    have key := nd_cost (n := rz_n q.1) (c := c) (c1 := lx_next (rz_T q.1) (rz_n q.1) c5) (c6 := c6) (c7 := lx_next (rz_T q.1) (rz_n q.1) c6) (p := pr_p S) (p6 := pr_p S6) (N := pr_N S) (ab := al_b (pr_N S) cn) (W := wvn (min 99 (rz_n q.1 - pr_v S))) (w := wvn (pr_v S5 - pr_v S)) (m := pr_v S5 - pr_v S) hc5.1 hc5.2 hpn.2 hgt h13 (by rw [← x3]; exact hlo) hpn.1 hw5 hw274 hb9 (by omega)
    exact ⟨Nat.le_trans hc.1 (Nat.add_le_add_left key _), Nat.le_trans hc.2 (Nat.add_le_add_left (Nat.mul_le_mul_left 12 key) _)⟩
end
