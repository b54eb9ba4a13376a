/-! the causes are variables that there are -/
set_option maxRecDepth 100000
theorem pk_d2 {n : Nat} (h : n < 2 ^ 31) : nI n / 2 = nI (n / 2) := pk_div (d := 2) (by omega) (by decide) (by decide)
section
variable {T : Nat → Int32} {n : Nat} {S : MS} {A Q P L B M C : Nat → Nat} {I : Nat}
/-- a number of a variable -/
def isV (N : Nat) (c : Int32) : Prop := ∃ w, w < N ∧ c = nI w
theorem rw_B (hI : rw_I S I B M C) {x m : Nat} (hx : x < I) (h56 : S.2 56 x = nI m) (hm : m < pr_N S) (hN : pr_N S ≤ 60) : S.2 59 x = nI (B x) ∧ B x + vcn S m ≤ B I ∧ S.2 60 x = nI (M x) ∧ M x + stn S m ≤ M I := by
  obtain ⟨m', r1, r2, r3, r4, r5, r6, r7, r8, r9⟩ := hI.2.1 x (Nat.zero_le _) hx
  have em : m' = m := by
    rw [h56] at r1
    exact ((nI_eq (by omega) (by omega)).1 r1).symm
  subst em
  have hC := hI.2.1.mB (I - (x + 1)) (x + 1) (by omega) (by omega)
  rw [show x + 1 + (I - (x + 1)) = I by omega] at hC
  exact ⟨r3, by omega, r4, by omega⟩
theorem rw_av (h : rw_K T n S A Q P L) {m : Nat} (hm : m < pr_N S) : pr_a (vw S m) = A m ∧ pr_v (vw S m) = A m + vcn S m ∧ A m + vcn S m ≤ 6000 ∧ vcn S m ≤ 99 := by
  obtain ⟨i, o, hn⟩ := h.1.2.1 m hm
  obtain ⟨d1, d2, d3, d4, d5, d6, d7⟩ := nf_cnt hn
  obtain ⟨⟨a1, a2, a3, a4, a5, a6⟩, ⟨b1, b2, b3, b4, b5, b6, b7, b8, b9, b10, b11, b12, b13, b14⟩, -⟩ := id hn
  refine ⟨by rw [vw_a (by omega), a1, jg_n, nI_clamp (by omega)], by rw [vw_v, a2, jg_n, nI_clamp (by omega)]; omega, by omega, by omega⟩
theorem rw_fq (h : rw_K T n S A Q P L) {m e : Nat} (hm : m < pr_N S) (h1 : P m ≤ e) (h2 : e < P (m + 1)) : S.2 43 e = -1 ∨ ∃ w, w < 2 ^ 30 ∧ S.2 43 e = nI w ∧ w / 2 < vcn S m ∧ S.2 24 (A m + w / 2) ≠ 0 := by
  obtain ⟨i, o, hn⟩ := h.1.2.1 m hm
  obtain ⟨e1, e2, e3, -⟩ := rw_av h hm
  obtain ⟨q1, q2⟩ := fq_all hn (h.2 m hm) e h1 h2
  rcases q1 with u | u | ⟨w, w1, w2, w3, w4⟩
  · exact absurd u q2
  · exact Or.inl u
  · rw [e1] at w3 w4
    rw [e2] at w3
    exact Or.inr ⟨w, w1, w2, by omega, w4⟩
theorem md_cv_ok (h : rw_K T n S A Q P L) (hI : rw_I S I B M C) : ∀ f x c m, x < f → x < I → S.2 56 x = nI m → m < pr_N S → (c = -1 ∨ ∃ w, w < 2 ^ 30 ∧ c = nI w ∧ w / 2 < vcn S m) → md_cv S f x c = -1 ∨ isV (B I) (md_cv S f x c) := by
  have hN := rw_N h
  intro f
  induction f with
  | zero => intro x c m hx; omega
  | succ f ih =>
    intro x c m hx hxI h56 hm hc
    rw [md_cv]
    by_cases u : c = -1
    · rw [if_pos u]
      by_cases w : S.2 57 x < 0
      · rw [if_pos w]; exact Or.inl rfl
      · rw [if_neg w]
        have h0 : 0 < x := by
          rcases Nat.eq_zero_or_pos x with u | u
          · rw [u, hI.2.2.2.2.1] at w
            exact absurd (by decide) w
          · exact u
        obtain ⟨y, e, m', y1, y2, y3, y4, y5, y6, y7, y8, y9, y10⟩ := hI.2.2.2.1 x h0 hxI
        obtain ⟨l1, l2⟩ := rw_lohi h y6
        obtain ⟨i, o, hn⟩ := h.1.2.1 m' y6
        have hp : P (m' + 1) ≤ 5000 := hn.2.1.2.2.2.2.2.2.2.1
        have hI32 : I ≤ 3200 := hI.1.2.2.2.2.2.2.1
        rw [y3, y4, nI_clamp (by omega), nI_clamp (by omega)]
        refine ih y _ m' (by omega) (by omega) y5 y6 ?_
        rcases rw_fq h (m := m') (e := e) y6 (by omega) (by omega) with r | ⟨w, w1, w2, w3, -⟩
        · exact Or.inl r
        · exact Or.inr ⟨w, w1, w2, w3⟩
    · rw [if_neg u]
      obtain ⟨w, w1, w2, w3⟩ := hc.resolve_left u
      obtain ⟨b1, b2, -⟩ := rw_B hI hxI h56 hm hN
      right
      exact ⟨B x + w / 2, by omega, by rw [b1, w2, pk_d2 (by omega), nI_add]⟩
/-- the i-th output of a call -/
theorem rw_out (h : rw_K T n S A Q P L) (hI : rw_I S I B M C) {y m e i : Nat} (hy : y < I) (h56 : S.2 56 y = nI m) (hm : m < pr_N S) (h1 : P m ≤ e) (h2 : e < P (m + 1)) (h3 : S.2 32 e = 3) (hi : i < jg_n (S.2 14 (jg_n (S.2 33 e)))) : isV (B I) (S.2 59 (S.2 62 (S.2 61 y + S.2 37 e).toNatClampNeg).toNatClampNeg + S.2 13 (S.2 33 e).toNatClampNeg + nI i) := by
  have hN := rw_N h
  have hI32 : I ≤ 3200 := hI.1.2.2.2.2.2.2.1
  obtain ⟨t, w, g, q1, q2, q3, q4, q5, q6, q7, q8, q9, -⟩ := rw_call h hI hy h56 hm h1 h2 h3
  obtain ⟨b1, b2, -⟩ := rw_B hI q6 q9 (by omega) hN
  obtain ⟨i9, o9, hn⟩ := h.1.2.1 g (by omega)
  obtain ⟨d1, d2, d3, d4, d5, d6, d7⟩ := nf_cnt hn
  obtain ⟨⟨a1, a2, a3, a4, a5, a6⟩, ⟨c1, c2, c3, c4, c5, c6, c7, c8, c9, c10, c11, c12, c13, c14⟩, -⟩ := id hn
  have cg : jg_n (nI g) = g := nI_clamp (by omega)
  rw [q7, cg, a4, jg_n, nI_clamp (by omega)] at hi
  refine ⟨B w + i9 + i, by omega, ?_⟩
  rw [q1, q2, nI_add, nI_clamp (n := C y + t) (by omega), q4, nI_clamp (n := w) (by omega), b1, q7, nI_clamp (n := g) (by omega), a3, nI_add, nI_add]
theorem rw_o1 (h : rw_K T n S A Q P L) {m e : Nat} (hm : m < pr_N S) (h1 : P m ≤ e) (h2 : e < P (m + 1)) (h3 : S.2 32 e = 3) : 0 < jg_n (S.2 14 (jg_n (S.2 33 e))) := by
  obtain ⟨i, o, hn⟩ := h.1.2.1 m hm
  obtain ⟨g, g1, g2, g3, -⟩ := nf_callee hn h1 h2 h3
  obtain ⟨i9, o9, hn9⟩ := h.1.2.1 g (by omega)
  obtain ⟨⟨a1, a2, a3, a4, a5, a6⟩, ⟨c1, c2, c3, c4, c5, c6, c7, c8, c9, c10, c11, c12, c13, c14⟩, -⟩ := id hn9
  rw [g3, a4, jg_n, nI_clamp (by omega)]
  omega
/-- a current's part has a clock on a variable -/
theorem rw_cur (h : rw_K T n S A Q P L) {m e : Nat} (hm : m < pr_N S) (h1 : P m ≤ e) (h2 : e < P (m + 1)) (h25 : S.2 32 e = 25) : ∃ k w, kls S e = [k] ∧ P m ≤ k ∧ k < e ∧ w < 2 ^ 30 ∧ S.2 43 k = nI w ∧ w / 2 < vcn S m ∧ S.2 24 (A m + w / 2) ≠ 0 ∧ S.2 36 k = nI w ∧ S.2 36 e = S.2 22 (A m + w / 2) := by
  obtain ⟨i, o, hn⟩ := h.1.2.1 m hm
  obtain ⟨p1, p2, q1, q2, q3, q4, q5, q6, q7, q8, q9⟩ := rw_eq h hm h1 h2
  have hlen := (q9 e q1 q2).2.2 h25
  obtain ⟨v1, v2, v3, v4⟩ := rw_av h hm
  obtain ⟨⟨a1, a2, a3, a4, a5, a6⟩, ⟨b1, b2, b3, b4, b5, b6, b7, b8, b9, b10, b11, b12, b13, b14⟩, ⟨Pk, Lk, ⟨c1, c2, c3, c4⟩, c5, c6⟩, d1, -⟩ := id hn
  obtain ⟨k, k1, k2, k3, k4⟩ := loc_k (P := Pk) (e := e) (Q (m + 1) - Q m) (Q m) (by rw [c1]; exact h1) (by rw [show Q m + (Q (m + 1) - Q m) = Q (m + 1) by omega, c2]; exact h2)
  obtain ⟨c, hW, hJ⟩ := c6 k k1 (by omega)
  have hj := (hJ.1 e k3 k4).2
  unfold jc at hj
  have e2 : ¬ (vw S m).2 32 e = 2 := by show ¬ S.2 32 e = 2; rw [h25]; decide
  have e26 : ¬ (vw S m).2 32 e = 26 := by show ¬ S.2 32 e = 26; rw [h25]; decide
  have e25 : (vw S m).2 32 e = 25 := h25
  rw [if_neg e2, if_neg e26, if_pos e25] at hj
  obtain ⟨s1, s2, s3, s4⟩ := nf_call hn h1 h2
  have ekl : kls (vw S m) e = kls S e := rfl
  rw [ekl] at hj
  generalize hks : kls S e = ks at hlen hj s3 s4
  match ks, hlen with
  | [x], _ =>
    have hx := (pw_k_mem _ _ s4).2 x List.mem_cons_self
    have e0 : [x].getD 0 0 = x := rfl
    rw [e0] at hj
    split at hj
    · cases hj
    rename_i hneg
    have hneg : ¬ S.2 36 x < 0 := hneg
    have h36 : S.2 36 e = jc_v (vw S m) ((S.2 36 x).toNatClampNeg / 2) := (Sum.inr.inj hj).symm
    rcases (d1 x (by omega) (by omega)).1 with u | u | ⟨w, w1, w2, w3, w4⟩
    · rw [u] at hneg; exact absurd (by decide) hneg
    · rw [u] at hneg; exact absurd (by decide) hneg
    · rw [v1] at w3 w4
      rw [v2] at w3
      have h43 := ((q7 e q1 q2).1 0 x (by rw [hks]; rfl)).1
      rw [if_neg (by rw [w2]; exact fun u => nI_pos (n := w) (by omega) (by rw [u]; decide))] at h43
      refine ⟨x, w, rfl, by omega, hx.2, w1, by rw [h43, w2], by omega, w4, w2, ?_⟩
      rw [h36, w2, nI_clamp (by omega), jc_v, v1]
      rfl
theorem el_ok (h : rw_K T n S A Q P L) (hI : rw_I S I B M C) {y m : Nat} (hy : y < I) (h56 : S.2 56 y = nI m) (hm : m < pr_N S) : ∀ f e, e < f → P m ≤ e → e < P (m + 1) → ∀ c ∈ el S y f e, isV (B I) c := by
  have hN := rw_N h
  obtain ⟨i, o, hn⟩ := h.1.2.1 m hm
  obtain ⟨v1, v2, v3, v4⟩ := rw_av h hm
  obtain ⟨b1, b2, -⟩ := rw_B hI hy h56 hm hN
  intro f
  induction f with
  | zero => intro e he; omega
  | succ f ih =>
    intro e he h1 h2 c hc
    obtain ⟨s1, s2, s3, s4⟩ := nf_call hn h1 h2
    have hkm := (pw_k_mem _ _ s4).2
    have kids : ∀ c ∈ (kls S e).flatMap (el S y f), isV (B I) c := fun c hc => by
      obtain ⟨x, x1, x2⟩ := List.mem_flatMap.1 hc
      have := hkm x x1
      exact ih x (by omega) (by omega) (by omega) c x2
    rw [el] at hc
    by_cases k2 : S.2 32 e = 2
    · rw [if_pos k2] at hc
      rcases s1 with ⟨u, -⟩ | ⟨u, -⟩ | ⟨u, m0, v, w1, w2⟩ | ⟨u, -⟩ | ⟨u, m⟩ | ⟨u, r, m⟩ | ⟨u, r, m⟩ | ⟨u, m, -⟩
      · rw [u] at k2; exact absurd k2 (by decide)
      · rw [u] at k2; exact absurd k2 (by decide)
      · rw [v1, v2] at w1
        rw [List.mem_singleton.1 hc, b1, w2, nI_add]
        exact ⟨_, by omega, rfl⟩
      · rw [u] at k2; exact absurd k2 (by decide)
      · rw [u] at k2; exact absurd k2 (by decide)
      · rw [k2] at u; exact absurd u (by decide)
      · rw [k2] at u; exact absurd u (by decide)
      · rw [u] at k2; exact absurd k2 (by decide)
    rw [if_neg k2] at hc
    by_cases k3 : S.2 32 e = 3
    · rw [if_pos k3] at hc
      rw [List.mem_singleton.1 hc]
      exact rw_out (i := 0) h hI hy h56 hm h1 h2 k3 (rw_o1 h hm h1 h2 k3)
    rw [if_neg k3] at hc
    by_cases k24 : S.2 32 e = 24
    · rw [if_pos k24] at hc
      cases hc
    rw [if_neg k24] at hc
    by_cases k6 : S.2 32 e = 6
    · rw [if_pos k6] at hc
      have hl : 0 < (kls S e).length := by
        obtain ⟨p1, p2, q1, q2, q3, q4, q5, q6, q7, q8, q9⟩ := rw_eq h hm h1 h2
        have := (q9 e q1 q2).2.1 k6
        omega
      have := hkm _ (getD_mem hl)
      exact ih _ (by omega) (by omega) (by omega) c hc
    rw [if_neg k6] at hc
    by_cases k26 : S.2 32 e = 26
    · rw [if_pos k26] at hc
      rcases List.mem_append.1 hc with hc | hc
      · exact kids c hc
      · rcases s1 with ⟨u, -⟩ | ⟨u, -⟩ | ⟨u, -⟩ | ⟨u, -⟩ | ⟨u, m⟩ | ⟨u, r, m⟩ | ⟨u, r, m⟩ | ⟨u, m, v, s, w0, w1, w2, w3⟩
        · rw [u] at k26; exact absurd k26 (by decide)
        · rw [u] at k26; exact absurd k26 (by decide)
        · rw [u] at k26; exact absurd k26 (by decide)
        · rw [u] at k26; exact absurd k26 (by decide)
        · rw [u] at k26; exact absurd k26 (by decide)
        · rw [k26] at r; exact absurd r (by decide)
        · rw [k26] at r; exact absurd r (by decide)
        · rw [v1, v2] at w1
          rw [List.mem_singleton.1 hc, b1, w3, pk_d2 (by omega), nI_add]
          exact ⟨_, by omega, rfl⟩
    rw [if_neg k26] at hc
    by_cases k25 : S.2 32 e = 25
    · rw [if_pos k25] at hc
      rcases List.mem_append.1 hc with hc | hc
      · exact kids c hc
      · obtain ⟨k, w, k1, k2, k3, k4, k5, k6, -⟩ := rw_cur h hm h1 h2 k25
        have e0 : [k].getD 0 0 = k := rfl
        rw [List.mem_singleton.1 hc, k1, e0, b1, k5, pk_d2 (by omega), nI_add]
        exact ⟨_, by omega, rfl⟩
    rw [if_neg k25] at hc
    exact kids c hc
/-- a call's outputs and the left sides -/
theorem nf_outs {f a a' i o q q' p p' l l' k b l1 j : Nat} (hn : nf T n S f a a' i o q q' p p' l l') (hk1 : q ≤ k) (hk2 : k < q') (h27 : S.2 27 k = nI b) (hb : b < p') (h26 : S.2 26 k = nI l1) (hl1 : l1 ≤ j) (hj : j < l') (h47 : ∃ l2, S.2 26 (k + 1) = nI l2 ∧ j < l2 ∧ l2 ≤ l') (h3 : S.2 32 b = 3) : j - l1 < jg_n (S.2 14 (jg_n (S.2 33 b))) := by
  obtain ⟨⟨a1, a2, a3, a4, a5, a6⟩, ⟨b1, b2, b3, b4, b5, b6, b7, b8, b9, b10, b11, b12, b13, b14⟩, ⟨P, L, ⟨c1, c2, c3, c4⟩, c5, c6⟩, d1, -⟩ := id hn
  obtain ⟨c, hW, hJ⟩ := c6 k hk1 hk2
  obtain ⟨m1, m2, m3, m4⟩ := c5 k hk1 hk2
  obtain ⟨w1, w2, w3, w4, w5, w6, w7, w8, w9, w10, w11, w12, w13⟩ := hW
  have w4 : S.2 27 k = nI (P (k + 1) - 1) := w4
  have w6 : S.2 26 k = nI (L k) := w6
  have w7 : S.2 26 (k + 1) = nI (L (k + 1)) := w7
  have w1 : S.2 25 k = nI c := w1
  have eb : b = P (k + 1) - 1 := by
    rw [h27] at w4
    exact (nI_eq (by omega) (by omega)).1 w4
  have el1 : l1 = L k := by
    rw [h26] at w6
    exact (nI_eq (by omega) (by omega)).1 w6
  obtain ⟨l2, x1, x2, x3⟩ := h47
  have el2 : l2 = L (k + 1) := by
    rw [x1] at w7
    exact (nI_eq (by omega) (by omega)).1 w7
  subst eb el1 el2
  have hj9 := (hJ.1 (P (k + 1) - 1) (by omega) (by omega)).1
  rw [if_pos rfl] at hj9
  generalize ho : (if (vw S f).2 0 (jg_n ((vw S f).2 25 k)) = 40 then L (k + 1) - L k else 1) = outs at hj9
  unfold jt at hj9
  have h3' : (vw S f).2 32 (P (k + 1) - 1) = 3 := h3
  rw [if_pos h3'] at hj9
  have hout : outs = jg_n (S.2 14 (jg_n (S.2 33 (P (k + 1) - 1)))) := by
    split at hj9
    · rename_i u
      exact u.2
    · cases hj9
  rw [← hout, ← ho]
  by_cases u : (vw S f).2 0 (jg_n ((vw S f).2 25 k)) = 40
  · rw [if_pos u]
    omega
  · rw [if_neg u]
    have hne : lx_kind T n c ≠ 40 := fun w => by
      refine u ?_
      have e25 : (vw S f).2 25 k = nI c := w1
      have e0 : (vw S f).2 0 = T := b12
      rw [e25, e0, jg_n, nI_clamp (by omega)]
      exact (lx_kind_40 w2).1 w
    have := w13 hne
    omega
end
