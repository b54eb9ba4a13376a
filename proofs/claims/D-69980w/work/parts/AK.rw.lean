/-! what is put in, and the causes of a variable -/
set_option maxRecDepth 100000
/-- all nodes are read, their clocks and parts known -/
def rw_K (T : Nat → Int32) (n : Nat) (S : MS) (A Q P L : Nat → Nat) : Prop := nfs T n S A Q P L ∧ ∀ f, f < pr_N S → ∀ k, Q f ≤ k → k < Q (f + 1) → fk S (A f) k
/-- the instances 0 .. I - 1 -/
def rw_I (S : MS) (I : Nat) (B M C : Nat → Nat) : Prop := (B 0 = 0 ∧ M 0 = 0 ∧ C 0 = 0 ∧ B I ≤ 6000 ∧ M I ≤ 6000 ∧ C I ≤ 3200 ∧ I ≤ 3200 ∧ 1 ≤ I) ∧ pr_R S S 0 I B M C ∧ pr_Q S S 0 I C ∧ pr_U S S 0 I ∧ S.2 57 0 = -1 ∧ S.2 56 0 = nI (pr_N S - 1) ∧ 1 ≤ pr_N S
section
variable {T : Nat → Int32} {n : Nat} {S : MS} {A Q P L B M C : Nat → Nat} {I : Nat}
theorem rw_N (h : rw_K T n S A Q P L) : pr_N S ≤ 60 := pr_N60 h.1
/-- an expression's equation -/
theorem rw_eq (h : rw_K T n S A Q P L) {m b : Nat} (hm : m < pr_N S) (h1 : P m ≤ b) (h2 : b < P (m + 1)) : ∃ p1 p2, p1 ≤ b ∧ b < p2 ∧ P m ≤ p1 ∧ p2 ≤ P (m + 1) ∧ p2 ≤ 5000 ∧ pt S p1 p2 ∧ (∀ e, p1 ≤ e → e < p2 → fu_e S (A m) e ∧ S.2 45 e = nI (lw (S.2 34) e)) ∧ S.2 44 (p2 - 1) = nI (p2 - 1) ∧
    ∀ e, p1 ≤ e → e < p2 → (S.2 32 e = 2 → kls S e = []) ∧ (S.2 32 e = 6 → (kls S e).length = 2) ∧ (S.2 32 e = 25 → (kls S e).length = 1) := by
  obtain ⟨i, o, hn⟩ := h.1.2.1 m hm
  obtain ⟨⟨a1, a2, a3, a4, a5, a6⟩, ⟨b1, b2, b3, b4, b5, b6, b7, b8, b9, b10, b11, b12, b13, b14⟩, ⟨Pk, Lk, ⟨c1, c2, c3, c4⟩, c5, c6⟩, -⟩ := id hn
  obtain ⟨k, k1, k2, k3, k4⟩ := loc_k (P := Pk) (e := b) (Q (m + 1) - Q m) (Q m) (by rw [c1]; exact h1) (by rw [show Q m + (Q (m + 1) - Q m) = Q (m + 1) by omega, c2]; exact h2)
  obtain ⟨c, hW, -⟩ := c6 k k1 (by omega)
  obtain ⟨m1, m2, m3, m4⟩ := c5 k k1 (by omega)
  have hfk := h.2 m hm k k1 (by omega)
  rw [fk_eq hW (by omega) (by omega)] at hfk
  refine ⟨Pk k, Pk (k + 1), k3, k4, m1, m2, by omega, (hW.2.2.2.2.2.2.2.2.2.1.pt (by omega)).vw, hfk.2.2.1, hfk.2.1, fun e e1 e2 => ?_⟩
  obtain ⟨s1, -⟩ := nf_call hn (e := e) (by omega) (by omega)
  refine ⟨fun q => ?_, fun q => ?_, fun q => ?_⟩
  · rcases s1 with ⟨u, -⟩ | ⟨u, -⟩ | ⟨u, m0, -⟩ | ⟨u, -⟩ | ⟨u, m⟩ | ⟨u, r, m⟩ | ⟨u, r, m⟩ | ⟨u, m, -⟩
    · rw [u] at q; exact absurd q (by decide)
    · rw [u] at q; exact absurd q (by decide)
    · exact List.eq_nil_of_length_eq_zero m0
    · rw [u] at q; exact absurd q (by decide)
    · rw [u] at q; exact absurd q (by decide)
    · rw [q] at u; exact absurd u (by decide)
    · rw [q] at u; exact absurd u (by decide)
    · rw [u] at q; exact absurd q (by decide)
  · rcases s1 with ⟨u, -⟩ | ⟨u, -⟩ | ⟨u, m0, -⟩ | ⟨u, -⟩ | ⟨u, m⟩ | ⟨u, r, m⟩ | ⟨u, r, m⟩ | ⟨u, m, -⟩
    · rw [u] at q; exact absurd q (by decide)
    · rw [u] at q; exact absurd q (by decide)
    · rw [u] at q; exact absurd q (by decide)
    · rw [u] at q; exact absurd q (by decide)
    · rw [u] at q; exact absurd q (by decide)
    · exact m
    · rw [q] at u; exact absurd u (by decide)
    · rw [u] at q; exact absurd q (by decide)
  · rcases s1 with ⟨u, -⟩ | ⟨u, -⟩ | ⟨u, m0, -⟩ | ⟨u, -⟩ | ⟨u, m⟩ | ⟨u, r, m⟩ | ⟨u, r, m⟩ | ⟨u, m, -⟩
    · rw [u] at q; exact absurd q (by decide)
    · rw [u] at q; exact absurd q (by decide)
    · rw [u] at q; exact absurd q (by decide)
    · rw [u] at q; exact absurd q (by decide)
    · rw [u] at q; exact absurd q (by decide)
    · rw [q] at r; exact absurd r (by decide)
    · exact m
    · rw [u] at q; exact absurd q (by decide)
theorem rw_lohi (h : rw_K T n S A Q P L) {m : Nat} (hm : m < pr_N S) : pn_lo S m = P m ∧ pn_hi S m = P (m + 1) := by
  obtain ⟨i, o, hn⟩ := h.1.2.1 m hm
  exact nf_lohi hn
/-- the call e of the instance y: its callee -/
theorem rw_call (h : rw_K T n S A Q P L) (hI : rw_I S I B M C) {y m e : Nat} (hy : y < I) (h56 : S.2 56 y = nI m) (hm : m < pr_N S) (h1 : P m ≤ e) (h2 : e < P (m + 1)) (h3 : S.2 32 e = 3) : ∃ t w g, S.2 61 y = nI (C y) ∧ S.2 37 e = nI t ∧ C y + t < 3200 ∧ S.2 62 (C y + t) = nI w ∧ y < w ∧ w < I ∧ S.2 33 e = nI g ∧ g < m ∧ S.2 56 w = nI g ∧ S.2 57 w = nI y ∧ S.2 58 w = nI e := by
  obtain ⟨l1, l2⟩ := rw_lohi h hm
  obtain ⟨t1, t2, g, g1, g2, g3⟩ := nfs_37 h.1 (e := e) hm (by omega) (by omega) h3
  obtain ⟨w, w1, w2, w3, w4, w5, w6⟩ := hI.2.2.1 y (Nat.zero_le _) hy m h56 hm e (by omega) (by omega) h3
  obtain ⟨m', r1, r2, r3, r4, r5, r6, r7, r8, r9⟩ := hI.2.1 y (Nat.zero_le _) hy
  have hN := rw_N h
  have em : m' = m := by
    rw [h56] at r1
    exact ((nI_eq (by omega) (by omega)).1 r1).symm
  subst em
  have hC := (hI.2.1.mB (I - (y + 1)) (y + 1) (by omega) (by omega)).2.2
  rw [show y + 1 + (I - (y + 1)) = I by omega] at hC
  obtain ⟨-, -, -, -, -, i6, -⟩ := hI.1
  exact ⟨jg_n (S.2 37 e), w, g, r5, t1, by omega, w3, w1, w2, g2, g1, by rw [w4, g2], w5, w6⟩
theorem rw_pcsH (h : rw_K T n S A Q P L) (hI : rw_I S I B M C) {y m b : Nat} (hy : y < I) (h56 : S.2 56 y = nI m) (hm : m < pr_N S) {p1 p2 : Nat} (hp1 : P m ≤ p1) (hp2 : p2 ≤ P (m + 1)) (hp : p2 ≤ 5000) (hpt : pt S p1 p2) (hl : ∀ e, p1 ≤ e → e < p2 → (S.2 32 e = 25 → (kls S e).length = 1)) : ∀ e, p1 ≤ e → e < p2 → pcs_H S y b e := by
  intro e e1 e2 _
  have hI32 : I ≤ 3200 := hI.1.2.2.2.2.2.2.1
  have hN := rw_N h
  refine ⟨fun h3 _ => ?_, fun h25 => ?_⟩
  · obtain ⟨t, w, g, q1, q2, q3, q4, q5, q6, q7, q8, -⟩ := rw_call h hI hy h56 hm (e := e) (by omega) (by omega) h3
    exact ⟨C y, t, w, g, q1, q2, q3, q4, by omega, q7, by omega⟩
  · have hlen := hl e e1 e2 h25
    obtain ⟨g1, g2⟩ := (hpt e e1 e2).2
    generalize hks : kls S e = ks at hlen g1 g2
    match ks, hlen with
    | [x], _ =>
      have hm := (pw_k_mem _ _ g2).2 x List.mem_cons_self
      exact ⟨x, g1.1, by omega⟩
theorem rw_csH (h : rw_K T n S A Q P L) (hI : rw_I S I B M C) {y m b : Nat} (hy : y < I) (h56 : S.2 56 y = nI m) (hm : m < pr_N S) (h1 : P m ≤ b) (h2 : b < P (m + 1)) : cs_H S y b := by
  obtain ⟨p1, p2, q1, q2, q3, q4, q5, q6, q7, q8, q9⟩ := rw_eq h hm h1 h2
  have hI32 : I ≤ 3200 := hI.1.2.2.2.2.2.2.1
  have hN := rw_N h
  obtain ⟨g1, g2⟩ := (q6 b q1 q2).2
  have hlo := (q6 b q1 q2).1
  refine ⟨by omega, by omega, ⟨lw (S.2 34) b, (q7 b q1 q2).2, (pw_k_mem _ _ g2).1, fun e e1 e2 => rw_pcsH h hI hy h56 hm q3 q4 q5 q6 (fun e a b c => (q9 e a b).2.2 c) e (by omega) (by omega)⟩, fun h3 => ?_⟩
  obtain ⟨t, w, g, r1, r2, r3, r4, r5, r6, r7, r8, -⟩ := rw_call h hI hy h56 hm h1 h2 h3
  exact ⟨C y, t, w, g, r1, r2, r3, r4, by omega, r7, by omega⟩
/-- what the expression b of the instance y names, as its i-th value -/
def cl_b (S : MS) (y b : Nat) (i : Int32) : List Int32 := if S.2 32 b = 3 then [S.2 59 (S.2 62 (S.2 61 y + S.2 37 b).toNatClampNeg).toNatClampNeg + S.2 13 (S.2 33 b).toNatClampNeg + i] else el S y (b + 1) b
def cl_c (S : MS) (x : Nat) (c : Int32) : List Int32 := if md_cv S (x + 1) x c < 0 then [] else [md_cv S (x + 1) x c]
/-- the variable v: where it is, which it is there -/
def cv_x (S : MS) (v : Nat) : Nat := jg_n (S.2 63 v)
def cv_g (S : MS) (v : Nat) : Nat := jg_n (S.2 56 (cv_x S v))
def cv_w (S : MS) (v : Nat) : Nat := jg_n (S.2 12 (cv_g S v)) + jg_n (S.2 64 v)
/-- the causes of v -/
def cl_v (S : MS) (v : Nat) : List Int32 := cl_c S (cv_x S v) (S.2 22 (cv_w S v)) ++
  (if S.2 13 (cv_g S v) ≤ S.2 64 v then cl_b S (cv_x S v) (jg_n (S.2 27 (jg_n (S.2 46 (cv_w S v))))) (S.2 47 (cv_w S v))
  else if S.2 57 (cv_x S v) < 0 then [] else cl_b S (jg_n (S.2 57 (cv_x S v))) ((kls S (jg_n (S.2 58 (cv_x S v)))).getD (jg_n (S.2 64 v)) 0) 0)
theorem cs_4_cz (h : rw_K T n S A Q P L) {S1 : MS} (hS : ∀ q, q ≠ 65 → q ≠ 66 → S1.2 q = S.2 q) {y m b : Nat} {i : Int32} (hm : m < pr_N S) (h1 : P m ≤ b) (h2 : b < P (m + 1)) (h44 : S.2 44 b = nI b) : cs_4 S1 y b i = cz S1 (cl_b S y b i) := by
  obtain ⟨p1, p2, q1, q2, q3, q4, q5, q6, q7, q8, q9⟩ := rw_eq h hm h1 h2
  obtain ⟨g1, g2⟩ := (q6 b q1 q2).2
  have hle := (pw_k_mem _ _ g2).1
  have e45 : jg_n (S1.2 45 b) = lw (S.2 34) b := by rw [hS 45 (by omega) (by omega), (q7 b q1 q2).2, jg_n, nI_clamp (by omega)]
  have hel := cz_el q6 (by omega) (fun e a b => (q7 e a b).1) q9 (y := y) (root := b) (by omega) (b + 1) b (b + 1) (by omega) q1 q2 (Nat.le_refl _) h44 (by omega)
  have e2 : cs_2 S1 y b = cz S1 (if b = b ∧ S.2 32 b = 3 then [] else el S y (b + 1) b) := by
    unfold cs_2
    rw [e45, pcs_cz, cz_p_cg (S := S) (fun q a b => hS q b a), hel]
  unfold cs_4
  by_cases h3 : S.2 32 b = 3
  · rw [if_pos ⟨rfl, h3⟩] at e2
    have e0 : cs_2 S1 y b = S1 := e2
    rw [e0]
    unfold cs_3 cl_b
    rw [if_pos h3, if_pos (by rw [hS 32 (by omega) (by omega)]; exact h3), hS 59 (by omega) (by omega), hS 62 (by omega) (by omega), hS 61 (by omega) (by omega), hS 37 (by omega) (by omega), hS 13 (by omega) (by omega), hS 33 (by omega) (by omega)]
    rfl
  · rw [if_neg (fun u => h3 u.2)] at e2
    rw [e2]
    unfold cs_3 cl_b
    rw [if_neg h3, if_neg (by rw [cz_2 (by omega), hS 32 (by omega) (by omega)]; exact h3)]
theorem md_cv_cg {S S1 : MS} (hS : ∀ q, q ≠ 65 → q ≠ 66 → S1.2 q = S.2 q) : ∀ f x c, md_cv S1 f x c = md_cv S f x c := by
  intro f
  induction f with
  | zero => intro x c; rfl
  | succ f ih =>
    intro x c
    rw [md_cv, md_cv, ih, hS 57 (by omega) (by omega), hS 43 (by omega) (by omega), hS 58 (by omega) (by omega), hS 59 (by omega) (by omega)]
theorem rw_in (hI : rw_I S I B M C) (h : rw_K T n S A Q P L) : md_in S I := by
  intro x hx
  rcases Nat.eq_zero_or_pos x with u | u
  · rw [u, hI.2.2.2.2.1]
    exact Or.inl (by decide)
  · obtain ⟨y, e, m, y1, y2, y3, y4, y5, y6, y7, y8, -⟩ := hI.2.2.2.1 x u hx
    obtain ⟨l1, l2⟩ := rw_lohi h y6
    obtain ⟨i, o, hn⟩ := h.1.2.1 m y6
    have hp : P (m + 1) ≤ 5000 := hn.2.1.2.2.2.2.2.2.2.1
    exact Or.inr ⟨y, e, y2, by omega, y3, y4⟩
/-- where a variable is -/
theorem rw_var (hI : rw_I S I B M C) (h : rw_K T n S A Q P L) {v : Nat} (hv : v < B I) : ∃ x m t, x < I ∧ m < pr_N S ∧ S.2 56 x = nI m ∧ S.2 59 x = nI (B x) ∧ v = B x + t ∧ t < vcn S m ∧ S.2 63 v = nI x ∧ S.2 64 v = nI t ∧ cv_x S v = x ∧ cv_g S v = m ∧ cv_w S v = A m + t ∧ S.2 12 m = nI (A m) := by
  obtain ⟨x, x1, x2, x3, x4⟩ := loc_k (P := B) (e := v) I 0 (by rw [hI.1.1]; exact Nat.zero_le _) (by rw [Nat.zero_add]; exact hv)
  rw [Nat.zero_add] at x2
  obtain ⟨m, r1, r2, r3, r4, r5, r6, r7, r8, r9⟩ := hI.2.1 x x1 x2
  have hN := rw_N h
  have hI32 : I ≤ 3200 := hI.1.2.2.2.2.2.2.1
  have hB6 : B I ≤ 6000 := hI.1.2.2.2.1
  obtain ⟨g1, g2⟩ := r9 (v - B x) (by omega)
  rw [show B x + (v - B x) = v by omega] at g1 g2
  obtain ⟨i, o, hn⟩ := h.1.2.1 m r2
  obtain ⟨d1, d2, d3, d4, d5, d6, d7⟩ := nf_cnt hn
  have hA : A m ≤ 6000 := by have := hn.2.1; omega
  have ex : cv_x S v = x := by rw [cv_x, g1, jg_n, nI_clamp (by omega)]
  have eg : cv_g S v = m := by rw [cv_g, ex, r1, jg_n, nI_clamp (by omega)]
  refine ⟨x, m, v - B x, x2, r2, r1, r3, by omega, by omega, g1, g2, ex, eg, ?_, d3⟩
  rw [cv_w, eg, d3, g2, jg_n, jg_n, nI_clamp (n := A m) (by omega), nI_clamp (n := v - B x) (by omega)]
end
