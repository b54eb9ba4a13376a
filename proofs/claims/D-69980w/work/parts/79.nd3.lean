/-! what holds within a node -/
set_option maxRecDepth 100000
theorem nd_0_2 {S : MS} {c e q j : Nat} : (nd_0 S c e).2 q j = if q = 12 ∧ j = pr_N S then S.1 19 else if q = 11 ∧ j = pr_N S then nI (e - c) else if q = 10 ∧ j = pr_N S then nI c else S.2 q j := by
  unfold nd_0
  rw [ml_sa_a, ml_sa_a, ml_sa_a]
  repeat' split
  all_goals first | rfl | omega
theorem nd_3_2 {S : MS} {q j : Nat} : (nd_3 S).2 q j = if q = 17 ∧ j = pr_N S then 0 else if q = 16 ∧ j = pr_N S then 0 else if q = 15 ∧ j = pr_N S then S.1 30 else if q = 12 ∧ j = pr_N S + 1 then S.1 19 else S.2 q j := by
  unfold nd_3
  rw [ml_sa_a, ml_sa_a, ml_sa_a, ml_sa_a]
  repeat' split
  all_goals first | rfl | omega
theorem nd_3_o {S : MS} {q : Nat} (h : q ≠ 12) (h2 : ¬ (15 ≤ q ∧ q ≤ 17)) : (nd_3 S).2 q = S.2 q := funext fun j => by
  rw [nd_3_2, if_neg (by omega), if_neg (by omega), if_neg (by omega), if_neg (by omega)]
theorem nd_3_12 {S : MS} {j : Nat} : (nd_3 S).2 12 j = if j = pr_N S + 1 then S.1 19 else S.2 12 j := by
  rw [nd_3_2, if_neg (by omega), if_neg (by omega), if_neg (by omega)]
  split
  · rename_i g
    rw [if_pos g.2]
  · rename_i g
    rw [if_neg (fun u => g ⟨rfl, u⟩)]
theorem nd_3_f {S : MS} : (nd_3 S).1 = S.1 := rfl
theorem nd_A {T : Nat → Int32} {n c c1 : Nat} {S : MS} (h : nd_I n c S) (h1 : c ≤ c1) (h2 : c1 ≤ n) : pg_I n (lx_next T n c1) (nd_0 S c1 (lx_end T n c1)) ∧ pr_a (nd_0 S c1 (lx_end T n c1)) = pr_v S ∧ md_px S (nd_0 S c1 (lx_end T n c1)) := by
  obtain ⟨hJ, hab, i1, i2, i3, i4, i5, i6, i7, i8, i9, i10⟩ := h
  obtain ⟨v1, v2, v3, v4, v5, v6, v7, v8, v9⟩ := hJ.1.N
  have hng := lx_next_ge (T := T) h2
  have ea : (nd_0 S c1 (lx_end T n c1)).2 12 (pr_N S) = nI (pr_v S) := by rw [nd_0_2, if_pos ⟨rfl, rfl⟩]; exact v3
  refine ⟨⟨⟨hJ.1.1, pr_N S, pr_v S, pr_v S, v1, v2, v3, v4, ea, Nat.le_refl _, v7, ?_, ?_⟩, ?_, hng.2, i3⟩, ?_, ?_⟩
  · intro i hi
    rw [nd_0_2, nd_0_2, if_neg (by omega), if_neg (by omega), if_neg (by omega), if_neg (by omega), if_neg (by omega), if_neg (by omega)]
    exact v8 i hi
  · intro v hv1 hv2
    omega
  · show pr_v S ≤ _
    omega
  · show ((nd_0 S c1 (lx_end T n c1)).2 12 (pr_N S)).toNatClampNeg = _
    rw [ea, nI_clamp (by omega)]
  · refine ⟨⟨fun _ _ => rfl, ?_⟩, fun k hk => funext fun j => ?_⟩
    · rw [nd_0_2]
      by_cases q : 12 = 12 ∧ 0 = pr_N S
      · rw [if_pos q, q.2, v5, v3, hab]
      · rw [if_neg q, if_neg (by omega), if_neg (by omega)]
    · rw [nd_0_2, if_neg (by omega), if_neg (by omega), if_neg (by omega)]
/-- the head is read -/
def nd_M (n c5 b k N : Nat) (S3 : MS) : Prop := pn_E n c5 S3 ∧ pj_V n S3 ∧ S3.2 26 (pr_k S3) = nI (pr_l S3) ∧ pr_k S3 = k ∧ pr_N S3 = N ∧ ∃ i o, 1 ≤ i ∧ 1 ≤ o ∧ S3.2 12 N = nI b ∧ S3.2 13 N = nI i ∧ S3.2 14 N = nI o ∧ b + i + o ≤ pr_v S3 ∧ S3.2 12 (N + 1) = nI (pr_v S3)
theorem nd_B1 {n : Nat} {S S0 S5 : MS} {b i o : Nat} (hV : pe_V n S5) (hN : pr_N S5 = pr_N S) (hb : b ≤ 6000) (ea : S5.2 12 (pr_N S) = nI b) (ei : S5.2 13 (pr_N S) = nI i) (eo : S5.2 14 (pr_N S) = nI o) (hbi : b + i + o ≤ pr_v S5) : pe_V n (nd_3 S5) ∧ pr_N (nd_3 S5) = pr_N S ∧ pr_a (nd_3 S5) = b ∧ pr_i (nd_3 S5) = i ∧ (nd_3 S5).2 12 (pr_N S) = nI b := by
  obtain ⟨w1, w2, w3, w4, w5, w6, w7, w8, w9⟩ := hV.N
  rw [hN] at w1 w2 w5 w8
  have hpr : pr_N (nd_3 S5) = pr_N S := by rw [pr_N, nd_3_f, ← hN]; rfl
  have e12 : (nd_3 S5).2 12 (pr_N S) = nI b := by rw [nd_3_12, if_neg (by rw [hN]; omega), ea]
  have ea5 : pr_a S5 = b := by rw [pr_a, hN, ea, nI_clamp (by omega)]
  rw [ea5] at w9
  refine ⟨⟨hV.1, pr_N S, b, pr_v S5, by rw [nd_3_f]; exact w1, w2, by rw [nd_3_f]; exact w3, w4, e12, by omega, ?_, ?_, ?_⟩, hpr, by rw [pr_a, hpr, e12, nI_clamp (by omega)], ?_, e12⟩
  · intro q hq
    rw [nd_3_o (by decide) (by decide), nd_3_o (by decide) (by decide)]
    exact w7 q hq
  · intro q hq
    rw [nd_3_o (by decide) (by decide), nd_3_o (by decide) (by decide)]
    exact w8 q hq
  · intro q h1 h2
    rw [nd_3_o (by decide) (by decide)]
    exact w9 q h1 h2
  · rw [pr_i, hpr, nd_3_o (by decide) (by decide), ei, nI_clamp (by omega)]
theorem nd_B {T : Nat → Int32} {n f c c1 c5 e5 : Nat} {S S5 : MS} (h : nd_I n c S) (hT : S.2 0 = T) (h1 : c ≤ c1) (h2 : c1 ≤ n) (h3 : nd_hd T n f (lx_next T n c1) (nd_0 S c1 (lx_end T n c1)) = some (.inr (e5, c5, S5))) (h4 : lx_isW T n c5 "let") :
    c1 ≤ c5 ∧ nd_hs (pr_v S) (nd_0 S c1 (lx_end T n c1)) S5 ∧ md_px S (nd_3 S5) ∧ pe_V n S5 ∧ nd_M n (lx_next T n c5) (pr_v S) (pr_k S) (pr_N S) (nd_3 S5) := by
  obtain ⟨hI0, ha0, px0⟩ := nd_A (T := T) h h1 h2
  obtain ⟨hJ, hab, i1, i2, i3, i4, i5, i6, i7, i8, i9, i10⟩ := h
  obtain ⟨v1, v2, v3, v4, -, -, -, -, -⟩ := hJ.1.N
  have hng := lx_next_ge (T := T) h2
  obtain ⟨-, a2, a3, a4, a5, i, o, b1, b2, b3, b4, b5⟩ := nd_hd_ok h3 hI0 ((px0.2 0 (Or.inl rfl)).trans hT) ha0
  rw [ha0] at b5
  have hv0 : pr_v (nd_0 S c1 (lx_end T n c1)) = pr_v S := rfl
  have hN0 : pr_N (nd_0 S c1 (lx_end T n c1)) = pr_N S := rfl
  have hf0 : (nd_0 S c1 (lx_end T n c1)).1 = S.1 := rfl
  have h20 : ∀ q, ¬ (10 ≤ q ∧ q ≤ 12) → (nd_0 S c1 (lx_end T n c1)).2 q = S.2 q := fun q hq => funext fun j => by rw [nd_0_2, if_neg (by omega), if_neg (by omega), if_neg (by omega)]
  have h200 : ∀ q j, q = 12 ∨ q = 13 ∨ q = 14 → j ≠ pr_N S → (nd_0 S c1 (lx_end T n c1)).2 q j = S.2 q j := fun q j _ hj => by rw [nd_0_2, if_neg (fun u => hj u.2), if_neg (fun u => hj u.2), if_neg (fun u => hj u.2)]
  have h12 : (nd_0 S c1 (lx_end T n c1)).2 12 (pr_N S) = nI (pr_v S) := by rw [nd_0_2, if_pos ⟨rfl, rfl⟩, v3]
  rw [hv0] at a4 a5
  rw [hN0] at b3 b4
  generalize nd_0 S c1 (lx_end T n c1) = S0 at *
  have eN : pr_N S5 = pr_N S := a4.N.trans hN0
  obtain ⟨t1, t2⟩ := lx_tkw h4
  obtain ⟨hV3, hpr, hpa, hpi, e12⟩ := nd_B1 (S := S) (S0 := S0) a2.1 eN (by omega) (by rw [a4.2.1 12 (by omega) (by omega)]; exact h12) b3 b4 b5
  have hf : ∀ k, k ≠ 19 → (nd_3 S5).1 k = S.1 k := fun k hk => by rw [nd_3_f, a4.1 k hk, hf0]
  have hvv : pr_v (nd_3 S5) = pr_v S5 := rfl
  have e13 : (nd_3 S5).2 13 (pr_N S) = nI i := by rw [nd_3_o (by decide) (by decide)]; exact b3
  have e14 : (nd_3 S5).2 14 (pr_N S) = nI o := by rw [nd_3_o (by decide) (by decide)]; exact b4
  have hold : ∀ q j, q = 12 ∨ q = 13 ∨ q = 14 → j < pr_N S → (nd_3 S5).2 q j = S.2 q j := by
    intro q j hq hj
    have e1 : (nd_3 S5).2 q j = S5.2 q j := by
      rcases hq with rfl | hq
      · rw [nd_3_12, if_neg (by rw [eN]; omega)]
      · rw [nd_3_o (by omega) (by omega)]
    have e2 : S5.2 q j = S0.2 q j := by
      rcases hq with rfl | hq
      · rw [a4.2.1 12 (by omega) (by omega)]
      · exact a4.2.2.1 q j (by omega) (by rw [hN0]; omega)
    rw [e1, e2]
    exact h200 q j hq (by omega)
  have hJ3 : pj_V n (nd_3 S5) := by
    refine ⟨hV3, fun v hv => ?_, fun f hf => ?_⟩
    · rw [nd_3_o (by decide) (by decide)]
      rw [hvv] at hv
      rcases Nat.lt_or_ge v (pr_v S) with q | q
      · rw [a4.2.2.2 24 v (by omega) q, h20 24 (by omega)]
        exact hJ.2.1 v q
      · exact a5 v q hv
    · rw [hpr] at hf
      obtain ⟨b, i', o', f1, f2, f3, f4, f5⟩ := hJ.2.2 f hf
      refine ⟨b, i', o', by rw [hold 12 f (by omega) hf]; exact f1, by rw [hold 13 f (by omega) hf]; exact f2, by rw [hold 14 f (by omega) hf]; exact f3, f4, ?_⟩
      rw [hvv]
      omega
  have hk : pr_k (nd_3 S5) = pr_k S := by rw [pr_k, pr_k, hf 30 (by omega)]
  have hp : pr_p (nd_3 S5) = pr_p S := by rw [pr_p, pr_p, hf 40 (by omega)]
  have hl : pr_l (nd_3 S5) = pr_l S := by rw [pr_l, pr_l, hf 31 (by omega)]
  have hc5 : c1 ≤ c5 := by omega
  have hpn : pn_E n (lx_next T n c5) (nd_3 S5) := ⟨hV3, t2, i3, by rw [hp, hf 40 (by omega)]; exact i4, by omega, by rw [hk, hf 30 (by omega)]; exact i6, by omega, by rw [hl, hf 31 (by omega)]; exact i8, by omega, by rw [hpr, e13, hpi], by rw [hpa, hpi, hvv]; omega⟩
  refine ⟨hc5, a4, ?_, a2.1, hpn, hJ3, ?_, hk, hpr, i, o, b1, b2, e12, e13, e14, by rw [hvv]; exact b5, ?_⟩
  · refine (px0.tr a4.px).tr ⟨⟨fun _ _ => rfl, by rw [nd_3_12, if_neg (by omega)]⟩, fun k hk => nd_3_o (by omega) (by omega)⟩
  · rw [hk, hl, nd_3_o (by decide) (by decide), a4.2.1 26 (by omega) (by omega), h20 26 (by omega)]
    exact i10
  · rw [nd_3_12, if_pos (by rw [eN]), hvv]
    exact a2.1.N.2.2.1
