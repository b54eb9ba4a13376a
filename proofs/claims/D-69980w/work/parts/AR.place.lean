/-! the place of a variable on a cycle -/
set_option maxRecDepth 100000
section
variable {z : MZ} {T : Nat → Int32} {n : Nat} {S : MS} {A Q P L B M C : Nat → Nat} {I : Nat}
/-- an input of the outermost node has no causes but earlier inputs -/
theorem rw_in0 (h : rw_K T n S A Q P L) (hI : rw_I S I B M C) {v : Nat} (hv : v < B I) (h0 : cv_x S v = 0) (h1 : S.2 64 v < S.2 13 (cv_g S v)) : ∀ w ∈ gE S v, w < v ∧ w < B I ∧ cv_x S w = 0 ∧ S.2 64 w < S.2 13 (cv_g S w) := by
  obtain ⟨x, m, t, x1, x2, x3, x4, x5, x6, x7, x8, x9, x10, x11, x12⟩ := rw_var hI h hv
  obtain ⟨i, o, hn⟩ := h.1.2.1 m x2
  obtain ⟨v1, v2, v3, v4⟩ := rw_av h x2
  obtain ⟨⟨a1, a2, a3, a4, a5, a6⟩, ⟨b1, b2, b3, b4, b5, b6, b7, b8, b9, b10, b11, b12, b13, b14⟩, -, -, -, f1, -⟩ := id hn
  rw [x9] at h0
  subst h0
  have ct : jg_n (nI t) = t := nI_clamp (by omega)
  have hB0 : B 0 = 0 := hI.1.1
  rw [x10, x8, a3] at h1
  have hti : t < i := (nI_ltI (by omega) (by omega)).1 h1
  have e57 := hI.2.2.2.2.1
  have hB6 : B I ≤ 6000 := hI.1.2.2.2.1
  intro w hw
  unfold gE cl_v at hw
  rw [x9, x10, x11, x8, ct, a3, if_neg (fun u => by have := (nI_leI (a := i) (b := t) (by omega) (by omega)).1 u; omega), e57, if_pos (by decide), List.append_nil] at hw
  unfold cl_c at hw
  have hq := f1 (A m + t) (by rw [v1]; omega) (by rw [v2]; omega)
  rw [v1] at hq
  rcases hq with r | ⟨c, c1, c2, c3, -⟩
  · have r : S.2 22 (A m + t) = -1 := r
    have ecv : md_cv S (0 + 1) 0 (-1) = -1 := by rw [md_cv, if_pos rfl, e57, if_pos (by decide)]
    rw [r, ecv, if_pos (by decide)] at hw
    cases hw
  · have c2 : S.2 22 (A m + t) = nI c := c2
    have hne : ¬ nI c = -1 := fun u => nI_pos (n := c) (by omega) (by rw [u]; decide)
    have ecv : md_cv S (0 + 1) 0 (nI c) = nI (c / 2) := by rw [md_cv, if_neg hne, x4, hB0, pk_d2 (by omega), nI_add, Nat.zero_add]
    rw [c2, ecv, if_neg (nI_pos (by omega))] at hw
    have ew : w = c / 2 := by
      have := List.mem_singleton.1 hw
      rw [this]
      exact nI_clamp (by omega)
    have hwv : w < v := by omega
    obtain ⟨m', r1, r2, r3, r4, r5, r6, r7, r8, r9⟩ := hI.2.1 0 (Nat.le_refl _) x1
    have hN := rw_N h
    have em : m' = m := by
      rw [x3] at r1
      exact ((nI_eq (by omega) (by omega)).1 r1).symm
    subst em
    obtain ⟨g1, g2⟩ := r9 w (by omega)
    rw [hB0, Nat.zero_add] at g1 g2
    have ex : cv_x S w = 0 := by rw [cv_x, g1]; rfl
    have eg : cv_g S w = m' := by rw [cv_g, ex, r1, jg_n, nI_clamp (by omega)]
    exact ⟨hwv, by omega, ex, by rw [eg, g2, a3]; exact nI_lt (by omega) (by omega)⟩
theorem rw_cyc0 (h : rw_K T n S A Q P L) (hI : rw_I S I B M C) {v : Nat} (hv : v < B I) (h0 : cv_x S v = 0) (h1 : S.2 64 v < S.2 13 (cv_g S v)) : ¬ rch (gE S) v v := by
  have main : ∀ k v b, v < B I → cv_x S v = 0 → S.2 64 v < S.2 13 (cv_g S v) → rn (gE S) (k + 1) v b → b < v := by
    intro k
    induction k with
    | zero =>
      rintro v b hv h0 h1 ⟨w, w1, w2⟩
      have w2 : w = b := w2
      rw [← w2]
      exact (rw_in0 h hI hv h0 h1 w w1).1
    | succ k ih =>
      rintro v b hv h0 h1 ⟨w, w1, w2⟩
      obtain ⟨r1, r2, r3, r4⟩ := rw_in0 h hI hv h0 h1 w w1
      have := ih w b r2 r3 r4 w2
      omega
  rintro ⟨k, hk⟩
  exact Nat.lt_irrefl _ (main k v v hv h0 h1 hk)
theorem md_qe_cg {S S1 : MS} (h : S1.2 27 = S.2 27) {c : Int32} : ∀ f k, md_qe S1 c f k = md_qe S c f k := by
  intro f
  induction f with
  | zero => intro k; rfl
  | succ f ih => intro k; rw [md_qe, md_qe, h, ih]
theorem rw_place (h : rw_K T n S A Q P L) (hI : rw_I S I B M C) {v d : Nat} (hv : v < B I) (hc : rch (gE S) v v) {σ : MS} (hS : ∀ q, q ≠ 65 → q ≠ 66 → ¬ (68 ≤ q ∧ q ≤ 71) → σ.2 q = S.2 q) : ml_C z mX6_placeOfVariable d 0 [vR (some z.2.1), vI (nI v)] σ (fun u σ' _ => u = some (vI (md_pl S v)) ∧ σ' = σ) (fun _ _ _ => False) := by
  obtain ⟨x, m, t, x1, x2, x3, x4, x5, x6, x7, x8, x9, x10, x11, x12⟩ := rw_var hI h hv
  obtain ⟨i, o, hn⟩ := h.1.2.1 m x2
  obtain ⟨v1, v2, v3, v4⟩ := rw_av h x2
  obtain ⟨⟨a1, a2, a3, a4, a5, a6⟩, ⟨b1, b2, b3, b4, b5, b6, b7, b8, b9, b10, b11, b12, b13, b14⟩, -⟩ := id hn
  have hI32 : I ≤ 3200 := hI.1.2.2.2.2.2.2.1
  have hB6 : B I ≤ 6000 := hI.1.2.2.2.1
  have hN := rw_N h
  have e : ∀ q, q = 63 ∨ q = 56 ∨ q = 12 ∨ q = 13 ∨ q = 64 ∨ q = 46 ∨ q = 57 ∨ q = 58 ∨ q = 15 ∨ q = 27 ∨ q = 25 → σ.2 q = S.2 q := fun q hq => hS q (by omega) (by omega) (by omega)
  have epl : md_pl σ v = md_pl S v := by
    unfold md_pl
    rw [e 64 (by omega), e 13 (by omega), e 56 (by omega), e 63 (by omega), e 25 (by omega), e 58 (by omega), e 15 (by omega), e 57 (by omega), e 46 (by omega), e 12 (by omega), md_qe_cg (e 27 (by omega))]
  rw [← epl]
  refine X6_placeOfVariable_C (x := x) (g := m) (by omega) (by rw [e 63 (by omega)]; exact x7) (by omega) (by rw [e 56 (by omega)]; exact x3) (by omega) (fun u => ?_) (fun u => ?_)
  · rw [e 64 (by omega), e 13 (by omega), x8, a3] at u
    have hit : jg_n (S.2 13 m) ≤ t := by
      rw [a3, jg_n, nI_clamp (by omega)]
      rcases Nat.lt_or_ge t i with y | y
      · exact absurd (nI_lt y (by omega)) u
      · exact y
    obtain ⟨k, b, j, l1, k1, k2, k3, -⟩ := rw_def h x2 x6 hit
    rw [e 12 (by omega), e 64 (by omega), e 46 (by omega), x12, x8, nI_add, nI_clamp (n := A m + t) (by omega), k3]
    exact ⟨vp_in_nI (by omega) (by decide), vp_in_nI (by omega) (by decide)⟩
  · rw [e 64 (by omega), e 13 (by omega)] at u
    have hx0 : x ≠ 0 := fun w => by
      refine rw_cyc0 h hI hv (by rw [x9, w]) (by rw [x10]; exact u) hc
    obtain ⟨y, e9, m', y1, y2, y3, y4, y5, y6, y7, y8, y9, y10⟩ := hI.2.2.2.1 x (by omega) x1
    obtain ⟨l1, l2⟩ := rw_lohi h y6
    rw [l1] at y7
    rw [l2] at y8
    obtain ⟨i9, o9, hn9⟩ := h.1.2.1 m' y6
    obtain ⟨⟨a1', a2', a3', a4', a5', a6'⟩, ⟨b1', b2', b3', b4', b5', b6', b7', b8', b9', b10', b11', b12', b13', b14'⟩, ⟨Pk, Lk, ⟨c1, c2, c3, c4⟩, c5, c6⟩, -⟩ := id hn9
    obtain ⟨k, k1, k2, k3, k4⟩ := loc_k (P := Pk) (e := e9) (Q (m' + 1) - Q m') (Q m') (by rw [c1]; exact y7) (by rw [show Q m' + (Q (m' + 1) - Q m') = Q (m' + 1) by omega, c2]; exact y8)
    obtain ⟨c, hW, -⟩ := c6 k k1 (by omega)
    obtain ⟨m1, m2, m3, m4⟩ := c5 k k1 (by omega)
    have w4 : S.2 27 k = nI (Pk (k + 1) - 1) := hW.2.2.2.1
    refine ⟨y, m', Q m', k, by omega, by rw [e 57 (by omega)]; exact y3, by rw [e 56 (by omega)]; exact y5, by omega, by rw [e 15 (by omega)]; exact a5', k1, by omega, ?_⟩
    rw [e 58 (by omega), e 27 (by omega), y4, w4]
    exact nI_le (by omega) (by omega)
end
