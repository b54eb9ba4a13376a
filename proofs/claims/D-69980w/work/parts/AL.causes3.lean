/-! causes(v) of each variable: the contract, the loop of read -/
set_option maxRecDepth 100000
/-- a call has as many arguments as its node has inputs -/
theorem nf_argc {T : Nat → Int32} {n f a a' i o q q' p p' l l' e : Nat} {S : MS} (h : nf T n S f a a' i o q q' p p' l l') (h1 : p ≤ e) (h2 : e < p') (h3 : S.2 32 e = 3) : (kls S e).length = jg_n (S.2 13 (jg_n (S.2 33 e))) := by
  obtain ⟨⟨a1, a2, a3, a4, a5, a6⟩, ⟨b1, b2, b3, b4, b5, b6, b7, b8, b9, b10, b11, b12, b13, b14⟩, ⟨P, L, ⟨c1, c2, c3, c4⟩, c5, c6⟩, d1, -⟩ := id h
  obtain ⟨k, k1, k2, k3, k4⟩ := loc_k (P := P) (e := e) (q' - q) q (by rw [c1]; exact h1) (by rw [show q + (q' - q) = q' by omega, c2]; exact h2)
  obtain ⟨c, hW, hJ⟩ := c6 k k1 (by omega)
  have hj := (hJ.1 e k3 k4).1
  generalize (if e = P (k + 1) - 1 then (if (vw S f).2 0 (jg_n ((vw S f).2 25 k)) = 40 then L (k + 1) - L k else 1) else 1) = outs at hj
  unfold jt at hj
  have h3' : (vw S f).2 32 e = 3 := h3
  rw [if_pos h3'] at hj
  split at hj
  · rename_i u
    exact u.1
  · cases hj
theorem cs_H_cg {S S1 : MS} (hS : ∀ q, q ≠ 65 → q ≠ 66 → S1.2 q = S.2 q) {y b : Nat} (h : cs_H S y b) : cs_H S1 y b := by
  unfold cs_H pcs_H
  rw [hS 45 (by omega) (by omega), hS 44 (by omega) (by omega), hS 32 (by omega) (by omega), hS 61 (by omega) (by omega), hS 37 (by omega) (by omega), hS 62 (by omega) (by omega), hS 33 (by omega) (by omega), hS 34 (by omega) (by omega)]
  exact h
theorem cs_0_2 {σ : MS} {v q : Nat} (h : q ≠ 65) : (cs_0 σ v).2 q = σ.2 q := by
  unfold cs_0
  funext j
  rw [ml_sa_a, if_neg h]
theorem cs_1_cz {S1 : MS} {c : Int32} : cs_1 S1 c = cz S1 (if c < 0 then [] else [c]) := by
  unfold cs_1
  split <;> rfl
section
variable {z : MZ} {T : Nat → Int32} {n : Nat} {S : MS} {A Q P L B M C : Nat → Nat} {I : Nat}
/-- what defines a variable behind the inputs -/
theorem rw_def (h : rw_K T n S A Q P L) {m t : Nat} (hm : m < pr_N S) (ht : t < vcn S m) (hi : jg_n (S.2 13 m) ≤ t) : ∃ k b j l1, Q m ≤ k ∧ k < Q (m + 1) ∧ S.2 46 (A m + t) = nI k ∧ S.2 27 k = nI b ∧ P m ≤ b ∧ b < P (m + 1) ∧ S.2 44 b = nI b ∧ S.2 47 (A m + t) = nI (j - l1) ∧ l1 ≤ j ∧ j < L (m + 1) ∧ jg_v S j = t ∧ S.2 26 k = nI l1 ∧ ∃ l2, S.2 26 (k + 1) = nI l2 ∧ j < l2 ∧ l2 ≤ L (m + 1) := by
  obtain ⟨i, o, hn⟩ := h.1.2.1 m hm
  obtain ⟨d1, d2, d3, d4, d5, d6, d7⟩ := nf_cnt hn
  obtain ⟨hj, hinj⟩ := nf_inj hn
  obtain ⟨⟨a1, a2, a3, a4, a5, a6⟩, ⟨b1, b2, b3, b4, b5, b6, b7, b8, b9, b10, b11, b12, b13, b14⟩, ⟨Pk, Lk, ⟨c1, c2, c3, c4⟩, c5, c6⟩, e1, -, -, f2, -⟩ := id hn
  rw [a3, jg_n, nI_clamp (by omega)] at hi
  have hg := (f2 (A m + t) (by omega) (by omega)).2.2 (by omega)
  obtain ⟨j, j1, j2, j3, j4⟩ := gc_ex _ (show 0 < gc (S.2 28) (A m) (A m + t) (L m) (L (m + 1) - L m) by omega)
  have ejv : jg_v S j = t := by rw [jg_v, j4, show A m + t - A m = t by omega, nI_clamp (by omega)]
  obtain ⟨k, k1, k2, k3, k4⟩ := loc_k (P := Lk) (e := j) (Q (m + 1) - Q m) (Q m) (by rw [c3]; exact j1) (by rw [show Q m + (Q (m + 1) - Q m) = Q (m + 1) by omega, c4]; omega)
  obtain ⟨c, hW, -⟩ := c6 k k1 (by omega)
  obtain ⟨m1, m2, m3, m4⟩ := c5 k k1 (by omega)
  have hfk := h.2 m hm k k1 (by omega)
  rw [fk_eq hW (by omega) (by omega)] at hfk
  obtain ⟨g1, g2, g3, g4⟩ := hfk
  obtain ⟨w1, w2, w3, w4, w5, w6, w7, w8, w9, w10, w11, w12, w13⟩ := hW
  obtain ⟨r1, r2⟩ := g4 j k3 k4
  rw [ejv] at r1 r2
  exact ⟨k, Pk (k + 1) - 1, j, Lk k, k1, by omega, r1, w4, by omega, by omega, g2, r2, k3, by omega, ejv, w6, Lk (k + 1), w7, k4, m4⟩
/-- an argument of a call -/
theorem rw_arg (h : rw_K T n S A Q P L) (hI : rw_I S I B M C) {x m t : Nat} (hx : x < I) (h56 : S.2 56 x = nI m) (hm : m < pr_N S) (hx0 : ¬ S.2 57 x < 0) (ht : t < jg_n (S.2 13 m)) : ∃ y e m', y < x ∧ S.2 57 x = nI y ∧ S.2 58 x = nI e ∧ S.2 56 y = nI m' ∧ m' < pr_N S ∧ P m' ≤ e ∧ e < P (m' + 1) ∧ e < 5000 ∧ S.2 32 e = 3 ∧ S.2 33 e = nI m ∧ md_ch (S.2 35) (S.2 34 e) (kls S e) ∧ (∀ k ∈ kls S e, P m' ≤ k ∧ k < e) ∧ (kls S e).length = jg_n (S.2 13 m) ∧ t < (kls S e).length ∧ S.2 44 ((kls S e).getD t 0) = nI ((kls S e).getD t 0) := by
  have h0 : 0 < x := by
    rcases Nat.eq_zero_or_pos x with u | u
    · rw [u, hI.2.2.2.2.1] at hx0
      exact absurd (by decide) hx0
    · exact u
  obtain ⟨y, e, m', y1, y2, y3, y4, y5, y6, y7, y8, y9, y10⟩ := hI.2.2.2.1 x h0 hx
  obtain ⟨l1, l2⟩ := rw_lohi h y6
  rw [l1] at y7
  rw [l2] at y8
  obtain ⟨i, o, hn⟩ := h.1.2.1 m' y6
  have hp : P (m' + 1) ≤ 5000 := hn.2.1.2.2.2.2.2.2.2.1
  have e33 : S.2 33 e = nI m := by rw [← y10]; exact h56
  have hN := rw_N h
  have hlen := nf_argc hn y7 y8 y9
  rw [e33] at hlen
  have cm : jg_n (nI m) = m := nI_clamp (by omega)
  rw [cm] at hlen
  obtain ⟨s1, s2, s3, s4⟩ := nf_call hn y7 y8
  have hkm := (pw_k_mem _ _ s4).2
  have htl : t < (kls S e).length := by omega
  obtain ⟨p1, p2, q1, q2, q3, q4, q5, q6, q7, -⟩ := rw_eq h y6 y7 y8
  have hget : (kls S e)[t]? = some ((kls S e).getD t 0) := by rw [List.getD_eq_getElem?_getD, List.getElem?_eq_getElem htl]; rfl
  have h44 := ((q7 e q1 q2).1 t _ hget).2
  rw [if_pos (Or.inr (Or.inl y9))] at h44
  exact ⟨y, e, m', y2, y3, y4, y5, y6, y7, y8, by omega, y9, e33, s3, fun k hk => by have := hkm k hk; omega, hlen, htl, h44⟩
theorem rw_causes_C (h : rw_K T n S A Q P L) (hI : rw_I S I B M C) {v d : Nat} (hv : v < B I) {σ : MS} (hS : ∀ q, q ≠ 65 → q ≠ 66 → σ.2 q = S.2 q) (h67 : ¬ σ.1 67 < 0) (hd : 3 ≤ d) : ml_C z mX6_causes d 0 [vR (some z.2.1), vI (nI v)] σ (fun u σ' _ => u = none ∧ σ' = cz (cs_0 σ v) (cl_v S v)) (fun _ _ _ => False) := by
  obtain ⟨x, m, t, x1, x2, x3, x4, x5, x6, x7, x8, x9, x10, x11, x12⟩ := rw_var hI h hv
  obtain ⟨i, o, hn⟩ := h.1.2.1 m x2
  obtain ⟨d1, d2, d3, d4, d5, d6, d7⟩ := nf_cnt hn
  obtain ⟨⟨a1, a2, a3, a4, a5, a6⟩, ⟨b1, b2, b3, b4, b5, b6, b7, b8, b9, b10, b11, b12, b13, b14⟩, -⟩ := id hn
  have hN := rw_N h
  have hB6 : B I ≤ 6000 := hI.1.2.2.2.1
  have hI32 : I ≤ 3200 := hI.1.2.2.2.2.2.2.1
  have hQ : Q (m + 1) ≤ 5000 := b10
  have hS0 : ∀ q, q ≠ 65 → q ≠ 66 → (cs_0 σ v).2 q = S.2 q := fun q q1 q2 => by rw [cs_0_2 q1]; exact hS q q1 q2
  have ct : jg_n (nI t) = t := nI_clamp (by omega)
  have ei : jg_n (S.2 13 m) = i := by rw [a3, jg_n, nI_clamp (by omega)]
  have e22 : σ.2 22 (A m + t) = S.2 22 (A m + t) := by rw [hS 22 (by omega) (by omega)]
  have ec1 : cs_1 (cs_0 σ v) (md_cv (cs_0 σ v) (x + 1) x (σ.2 22 (A m + t))) = cz (cs_0 σ v) (cl_c S x (S.2 22 (A m + t))) := by
    rw [cs_1_cz, md_cv_cg hS0, e22]
    rfl
  have hS1 : ∀ l q, q ≠ 65 → q ≠ 66 → (cz (cs_0 σ v) l).2 q = S.2 q := fun l q q1 q2 => by rw [cz_2 q2]; exact hS0 q q1 q2
  have ecl : cl_v S v = cl_c S x (S.2 22 (A m + t)) ++ (if S.2 13 m ≤ nI t then cl_b S x (jg_n (S.2 27 (jg_n (S.2 46 (A m + t))))) (S.2 47 (A m + t)) else if S.2 57 x < 0 then [] else cl_b S (jg_n (S.2 57 x)) ((kls S (jg_n (S.2 58 x))).getD t 0) 0) := by
    unfold cl_v
    rw [x9, x10, x11, x8, ct]
  refine X6_causes_C (n := I) (x := x) (g := m) (t := t) (a := A m) (R := cz (cs_0 σ v) (cl_v S v)) (by omega) (by rw [hS 63 (by omega) (by omega)]; exact x7) x1 hI32 ?_ (by rw [hS 56 (by omega) (by omega)]; exact x3) (by omega) (by rw [hS 64 (by omega) (by omega)]; exact x8) (by rw [hS 12 (by omega) (by omega)]; exact x12) (by omega) h67 (fun u => ?_) (fun u w => ?_) (fun u w => ?_) hd
  · intro y hy
    have := rw_in hI h y hy
    rw [hS 57 (by omega) (by omega), hS 58 (by omega) (by omega)]
    exact this
  · rw [hS 13 (by omega) (by omega)] at u
    have hit : jg_n (S.2 13 m) ≤ t := by
      rw [a3] at u
      rw [ei]
      exact (nI_leI (by omega) (by omega)).1 u
    obtain ⟨k, b, j, l1, k1, k2, k3, k4, k5, k6, k7, k8, -⟩ := rw_def h x2 x6 hit
    have ck : jg_n (nI k) = k := nI_clamp (by omega)
    have cb : jg_n (nI b) = b := nI_clamp (by omega)
    refine ⟨k, b, by rw [hS 46 (by omega) (by omega)]; exact k3, by omega, by rw [hS 27 (by omega) (by omega)]; exact k4, cs_H_cg hS (rw_csH h hI x1 x3 x2 k5 k6), ?_⟩
    rw [ec1, cs_4_cz h (hS1 _) x2 k5 k6 k7, ecl, if_pos u, k3, ck, k4, cb, cz_app, hS 47 (by omega) (by omega)]
  · rw [hS 13 (by omega) (by omega)] at u
    rw [hS 57 (by omega) (by omega)] at w
    have hit : t < jg_n (S.2 13 m) := by
      rw [ei]
      rcases Nat.lt_or_ge t i with y | y
      · exact y
      · exact absurd (by rw [a3]; exact nI_le y (by omega)) u
    have hx0 : ¬ S.2 57 x < 0 := Int32.not_lt.2 w
    obtain ⟨y, e, m', r1, r2, r3, r4, r5, r6, r7, r8, r9, r10, r11, r12, r13, r14, r15⟩ := rw_arg h hI x1 x3 x2 hx0 hit
    have hkls : kls σ e = kls S e := by
      unfold kls
      rw [hS 34 (by omega) (by omega), hS 35 (by omega) (by omega)]
    have hmem : (kls S e).getD t 0 ∈ kls S e := getD_mem r14
    obtain ⟨z1, z2⟩ := r12 _ hmem
    have cy : jg_n (nI y) = y := nI_clamp (by omega)
    have ce : jg_n (nI e) = e := nI_clamp (by omega)
    refine ⟨y, e, by rw [hS 57 (by omega) (by omega)]; exact r2, by rw [hS 58 (by omega) (by omega)]; exact r3, by omega, by rw [hkls, hS 35 (by omega) (by omega), hS 34 (by omega) (by omega)]; exact r11, fun k hk => by rw [hkls] at hk; have := r12 k hk; omega, by rw [hkls]; exact r14, by rw [hkls]; exact cs_H_cg hS (rw_csH h hI (by omega) r4 r5 z1 (by omega)), ?_⟩
    rw [hkls, ec1, cs_4_cz h (hS1 _) r5 z1 (by omega) r15, ecl, if_neg u, if_neg hx0, r2, r3, cy, ce, cz_app]
  · rw [hS 13 (by omega) (by omega)] at u
    rw [hS 57 (by omega) (by omega)] at w
    rw [ec1, ecl, if_neg u, if_pos (Int32.not_le.1 w), List.append_nil]
/-- how many causes there are below v -/
def ce (S : MS) : Nat → Nat
  | 0 => 0
  | v + 1 => ce S v + (cl_v S v).length
/-- the graph below v -/
def cg_I (S σ : MS) (v : Nat) : Prop := (∀ q, q ≠ 65 → q ≠ 66 → σ.2 q = S.2 q) ∧ (∀ q, q ≠ 67 → σ.1 q = S.1 q) ∧ σ.1 67 = nI (ce S v) ∧ ∀ w, w < v → σ.2 65 w = nI (ce S w) ∧ ∀ j c, (cl_v S w)[j]? = some c → σ.2 66 (ce S w + j) = c
theorem ce_mono {S : MS} : ∀ m v, ce S v ≤ ce S (v + m) := by
  intro m
  induction m with
  | zero => intro v; exact Nat.le_refl _
  | succ m ih =>
    intro v
    have := ih v
    rw [← Nat.add_assoc, ce]
    omega
theorem cg_step {σ : MS} {v : Nat} (h : cg_I S σ v) (hb : ce S (v + 1) ≤ 40000) : cg_I S (cz (cs_0 σ v) (cl_v S v)) (v + 1) := by
  obtain ⟨h1, h2, h3, h4⟩ := h
  rw [ce] at hb
  obtain ⟨g1, g2, g3⟩ := cz_val (cl_v S v) (cs_0 σ v) (ce S v) h3 (by omega)
  have e65 : ∀ w, (cz (cs_0 σ v) (cl_v S v)).2 65 w = if w = v then nI (ce S v) else σ.2 65 w := fun w => by
    rw [cz_2 (by omega), cs_0, ml_sa_a, if_pos rfl, h3]
  refine ⟨fun q q1 q2 => by rw [cz_2 q2, cs_0_2 q1]; exact h1 q q1 q2, fun q q1 => by rw [cz_1 q1]; exact h2 q q1, by rw [g1]; rfl, fun w hw => ?_⟩
  rw [e65]
  rcases Nat.lt_or_ge w v with u | u
  · rw [if_neg (by omega)]
    obtain ⟨r1, r2⟩ := h4 w u
    refine ⟨r1, fun j c hj => ?_⟩
    have hjl : j < (cl_v S w).length := by
      rcases Nat.lt_or_ge j (cl_v S w).length with y | y
      · exact y
      · rw [List.getElem?_eq_none y] at hj; cases hj
    have hm := ce_mono (S := S) (v - (w + 1)) (w + 1)
    rw [show w + 1 + (v - (w + 1)) = v by omega, ce] at hm
    rw [g3 _ (by omega)]
    show (cs_0 σ v).2 66 _ = c
    rw [cs_0_2 (by omega)]
    exact r2 j c hj
  · have : w = v := by omega
    subst this
    rw [if_pos rfl]
    exact ⟨rfl, g2⟩
/-- read's loop over the variables -/
theorem read_causes {jm : MJ} (h : rw_K T n S A Q P L) (hI : rw_I S I B M C) (h51 : S.1 51 = nI (B I)) (hb : ce S (B I) ≤ 40000) (hd : 10 ≤ jm.1) (K : ∀ σ E, cg_I S σ (B I) → ml_V z mX6_read jm 245 [(0, vR (some z.2.1))] [] σ E jm.2.1) : ∀ m v σ E, v + m = B I → cg_I S σ v → ml_V z mX6_read jm 226 [(0, vR (some z.2.1)), (1, vI (nI v))] [] σ E jm.2.1 := by
  have hB6 : B I ≤ 6000 := hI.1.2.2.2.1
  intro m
  induction m with
  | zero =>
    intro v σ E hv hg
    have ev : v = B I := by omega
    subst ev
    refine mbread_226 (fun _ => K _ _ hg) (fun q => absurd ?_ q)
    rw [hg.2.1 51 (by omega), h51]
    exact nI_le (Nat.le_refl _) (by omega)
  | succ m ih =>
    intro v σ E hv hg
    refine mbread_226 (fun q => ?_) (fun _ => ?_)
    · rw [hg.2.1 51 (by omega), h51] at q
      exact absurd ((nI_leI (by omega) (by omega)).1 q) (by omega)
    · have hc := ce_mono (S := S) (B I - v) v
      rw [show v + (B I - v) = B I by omega] at hc
      have hc1 := ce_mono (S := S) (B I - (v + 1)) (v + 1)
      rw [show v + 1 + (B I - (v + 1)) = B I by omega] at hc1
      refine mbread_234 (rw_causes_C (d := 5) h hI (by omega) hg.1 (by rw [hg.2.2.1]; exact nI_pos (by omega)) (by omega)) (by omega) (Nat.zero_le _) (ml_kr0 fun σ1 g => ?_) (fun E q G ⟨_, _, _, _, _, u⟩ => u.elim)
      subst g
      refine mbread_239 ?_
      rw [nI_1]
      exact ih (v + 1) _ _ (by omega) (cg_step hg (by omega))
end
