/-! THE COMPONENT's PARSER: what finish asks of the text holds -/
set_option maxRecDepth 100000
theorem uq_k {P : Nat → Nat} {q q' k k' x : Nat} (h : ∀ k, q ≤ k → k < q' → P k < P (k + 1)) (h1 : q ≤ k ∧ k < q') (h2 : q ≤ k' ∧ k' < q') (h3 : P k ≤ x ∧ x < P (k + 1)) (h4 : P k' ≤ x ∧ x < P (k' + 1)) : k = k' := by
  rcases Nat.lt_trichotomy k k' with g | g | g
  · have := mono_k (P := P) (q := q) (q' := q') h (k' - (k + 1)) (k + 1) (by omega) (by omega)
    rw [show k + 1 + (k' - (k + 1)) = k' by omega] at this
    omega
  · exact g
  · have := mono_k (P := P) (q := q) (q' := q') h (k - (k' + 1)) (k' + 1) (by omega) (by omega)
    rw [show k' + 1 + (k - (k' + 1)) = k by omega] at this
    omega
section
variable {q : PZ} {S5 S6 : MS} {vk : (Nat → Nat) × (Nat → Int32)} {Mf : Nat → Option (Nat × Nat)} {Q : Nat → Nat} {f0 f c1 e c6 b k N i o : Nat}
theorem nd_fnH (hM : nd_M (rz_n q.1) c1 b k N (nd_3 S5)) (hpr : ∀ e, e < pr_p S5 → S5.2 38 e = nI (e + 1 - lw (S5.2 34) e)) (hgx : gx S5) (hT5 : S5.2 0 = rz_T q.1) (h6 : pe_eqs (rz_T q.1) (rz_n q.1) f0 f c1 (nd_3 S5) = some (.inr (e, c6, S6))) (hMM : eqM (qVK q vk) Mf Q (pr_p S5) (pr_k S5) S6) (hio : 1 ≤ i ∧ 1 ≤ o ∧ pr_a S5 + i + o ≤ pr_v S5) (h13 : S5.2 13 (pr_N S5) = nI i)
    (hk0 : ∀ v, pr_a S5 ≤ v → v < pr_a S5 + i → vk.2 v = 0) (hk1 : ∀ v, pr_a S5 + i ≤ v → v < pr_a S5 + i + o → vk.2 v = 1) (hk2 : ∀ v, pr_a S5 + i + o ≤ v → v < pr_v S5 → vk.2 v = 2) :
    ∃ Pp Lf kq, fnH (qS (qVK q vk) Mf) (rz_T q.1) (rz_n q.1) Q Pp Lf kq (pr_k S5) (pr_p S5) i o S6 := by
  obtain ⟨hE3, hJ3, hB3, ek3, eN3, -⟩ := id hM
  obtain ⟨hM6, b4, b5, b6, b7, b8⟩ := nd_C hM h6
  obtain ⟨hE6, hJ6, hB6, -, eN6, -⟩ := id hM6
  obtain ⟨hV6, z1, z2, z3, z4, z5, z6, z7, z8, z9, z10⟩ := id hE6
  obtain ⟨w1, w2, w3, w4, w5, w6, w7, w8, w9⟩ := hV6.N
  have ek5 : pr_k (nd_3 S5) = pr_k S5 := rfl
  have ep3 : pr_p (nd_3 S5) = pr_p S5 := rfl
  have el3 : pr_l (nd_3 S5) = pr_l S5 := rfl
  have eN5 : pr_N S5 = N := eN3
  have ea5 : pr_a (nd_3 S5) = pr_a S5 := nd_3_E.a
  have ea6 : pr_a S6 = pr_a S5 := b5.a.trans ea5
  have ev6 : pr_v S6 = pr_v S5 := b5.v.trans rfl
  have hN0 : nx_I N (pr_p (nd_3 S5)) (nd_3 S5).2 (nd_3 S5) := by
    refine ⟨eN3, Nat.le_refl _, ?_, ?_, fun e a b => by omega, fun e he => ?_, fun _ _ _ _ => rfl⟩
    · rw [Nat.sub_self, nd_3_2, if_pos ⟨rfl, eN5.symm⟩]
      rfl
    · rw [Nat.sub_self, nd_3_2, if_neg (by omega), if_pos ⟨rfl, eN5.symm⟩]
      rfl
    · rw [nd_3_o (by omega) (by omega), nd_3_o (by omega) (by omega)]
      exact hpr e (by rw [ep3] at he; exact he)
  have hW0 : nf_P (rz_T q.1) (rz_n q.1) (nd_3 S5) (pr_k (nd_3 S5)) (pr_k (nd_3 S5)) (pr_p (nd_3 S5)) (pr_p (nd_3 S5)) (pr_l (nd_3 S5)) (pr_l (nd_3 S5)) := ⟨fun _ => pr_p (nd_3 S5), fun _ => pr_l (nd_3 S5), rfl, rfl, rfl, rfl, fun k a b => by omega⟩
  obtain ⟨hP6, hX6, hG6, hO6, hp6, hl6⟩ := pe_eqs_P (N := N) (p0 := pr_p (nd_3 S5)) (U := (nd_3 S5).2) (S0 := nd_3 S5) (k0 := pr_k (nd_3 S5)) (l0 := pr_l (nd_3 S5)) _ _ _ _ _ _ h6 hE3 hB3 (Nat.le_refl _) (Nat.le_refl _) (Nat.le_refl _) hW0 hN0 pq_same.rf (fun v _ => by rw [Nat.sub_self]; exact (Int32.add_zero _).symm) pf_old.rf
  rw [ek5, ep3, el3] at hP6
  rw [ep3] at hp6
  rw [el3] at hG6 hl6
  have hkk : pr_k S5 < pr_k S6 := by rw [← ek5, ek3]; exact b6
  obtain ⟨Pp, Lf, ⟨p1, p2, p3, p4⟩, hB, hW⟩ := hP6.b (Nat.le_of_lt hkk)
  have hPm : ∀ x, pr_k S5 ≤ x → x < pr_k S6 → Pp x < Pp (x + 1) := fun x a b => by
    obtain ⟨c, w⟩ := hW x a b
    exact w.2.2.2.2.1
  have hLm : ∀ x, pr_k S5 ≤ x → x < pr_k S6 → Lf x < Lf (x + 1) := fun x a b => by
    obtain ⟨c, w⟩ := hW x a b
    exact w.2.2.2.2.2.2.2.1
  have hloc : ∀ x, pr_p S5 ≤ x → x < pr_p S6 → ∃ k, (pr_k S5 ≤ k ∧ k < pr_k S6) ∧ Pp k ≤ x ∧ x < Pp (k + 1) := fun x a b => by
    obtain ⟨k, k1, k2, k3, k4⟩ := loc_k (P := Pp) (e := x) (pr_k S6 - pr_k S5) (pr_k S5) (by rw [p1]; exact a) (by rw [show pr_k S5 + (pr_k S6 - pr_k S5) = pr_k S6 by omega, p2]; exact b)
    exact ⟨k, ⟨k1, by omega⟩, k3, k4⟩
  have ei6 : pr_i S6 = i := by
    show (S6.2 13 (pr_N S6)).toNatClampNeg = i
    rw [b5.N, b5.2 13 (by omega) (by omega) (by omega) (by omega) (by omega), nd_3_o (by omega) (by omega)]
    show (S5.2 13 (pr_N S5)).toNatClampNeg = i
    rw [h13, nI_clamp (by omega)]
  refine ⟨Pp, Lf, fun x => if h : pr_p S5 ≤ x ∧ x < pr_p S6 then Classical.choose (hloc x h.1 h.2) else 0, ⟨⟨hJ6, ?_, z2, by show pr_p S6 ≤ 5000; omega, by show pr_k S6 ≤ 5000; omega, ?_⟩, ⟨p1, p2⟩, fun k k1 k2 => ?_, fun k k1 k2 => ?_⟩, ⟨hLm, fun k k1 k2 => ?_, fun j j1 j2 => ?_, ?_, ?_⟩, ⟨w4, ?_, fun v v1 v2 => ?_⟩, fun x x1 x2 x3 => ?_, ⟨fun k k1 k2 x x1 x2 => ?_, fun x x1 x2 => ?_⟩, hp6, ei6, fun v v1 v2 => ?_⟩
  · show S6.2 0 = rz_T q.1
    rw [b5.T]
    show (nd_3 S5).2 0 = _
    rw [nd_3_o (by omega) (by omega)]
    exact hT5
  · show pr_k S5 ≤ pr_k S6
    omega
  · obtain ⟨c, w⟩ := hW k k1 k2
    have g1 := hB k k1 (by have : k < pr_k S6 := k2; omega)
    have g2 := hB (k + 1) (by omega) k2
    exact ⟨c, w, by omega, g2.2.1, g1.1⟩
  · have k2 : k < pr_k S6 := k2
    obtain ⟨c, w⟩ := hW k k1 k2
    have g1 := hB k k1 (by omega)
    have g2 := hB (k + 1) (by omega) k2
    have hlt := hPm k k1 k2
    have hlt2 := hLm k k1 k2
    have e27 : jg_n (S6.2 27 k) = Pp (k + 1) - 1 := by rw [w.2.2.2.1]; exact nI_clamp (by omega)
    refine ⟨fun e e1 e2 => ?_, ?_⟩
    · show Mf e = none
      rcases hMM.1 e (by omega) with u | ⟨k', k1', k2', u⟩
      · exact u
      · exfalso
        obtain ⟨c', w'⟩ := hW k' k1' k2'
        have g2' := hB (k' + 1) (by omega) k2'
        have hlt' := hPm k' k1' k2'
        have e27' : jg_n (S6.2 27 k') = Pp (k' + 1) - 1 := by rw [w'.2.2.2.1]; exact nI_clamp (by omega)
        rw [e27'] at u
        have := uq_k (x := e) hPm ⟨k1, k2⟩ ⟨k1', k2'⟩ ⟨e1, by omega⟩ ⟨by omega, by omega⟩
        subst this
        omega
    · show Mf (Pp (k + 1) - 1) = _
      rw [← e27, hMM.2 k k1 k2]
      have e26 : jg_n (S6.2 26 k) = Lf k := by rw [w.2.2.2.2.2.1]; exact nI_clamp (by omega)
      have e26' : jg_n (S6.2 26 (k + 1)) = Lf (k + 1) := by rw [w.2.2.2.2.2.2.1]; exact nI_clamp (by omega)
      rw [e26, e26']
      rfl
  · obtain ⟨c, w⟩ := hW k k1 k2
    have g2 := hB (k + 1) (by omega) k2
    have hlt2 := hLm k k1 k2
    exact ⟨by rw [w.2.2.2.2.2.1]; exact nI_clamp (by omega), by rw [w.2.2.2.2.2.2.1]; exact nI_clamp (by omega), w.2.2.2.2.2.2.2.2.2.2.1⟩
  · obtain ⟨k, k1, k2, k3, k4⟩ := loc_k (P := Lf) (e := j) (pr_k S6 - pr_k S5) (pr_k S5) j1 (by rw [show pr_k S5 + (pr_k S6 - pr_k S5) = pr_k S6 by omega]; exact j2)
    obtain ⟨c, w⟩ := hW k k1 (by omega)
    exact w.2.2.2.2.2.2.2.2.2.2.1 j k3 k4
  · rw [p3, p4]; exact hl6
  · rw [p4]; omega
  · rw [ea6, ei6, ev6]; omega
  · rw [ea6] at v1
    rw [ev6] at v2
    have g := hG6 v (by omega)
    have e23 : (nd_3 S5).2 23 v = 0 := by rw [nd_3_o (by omega) (by omega)]; exact (hgx.2 v v1 v2).1
    rw [g, e23, Int32.zero_add, p3, p4]
  · obtain ⟨k, ⟨k1, k2⟩, k3, k4⟩ := hloc x x1 x2
    obtain ⟨c, w⟩ := hW k k1 k2
    obtain ⟨-, ks, -, -, hs⟩ := w.2.2.2.2.2.2.2.2.2.1 x k3 k4
    rw [x3] at hs
    rcases hs with h | h | h | h | h | h | h | h
    · exact absurd h.1 (by decide)
    · exact absurd h.1 (by decide)
    · exact absurd h.1 (by decide)
    · obtain ⟨-, -, y, y1, y2⟩ := h
      rw [y2, show jg_n (nI y) = y from nI_clamp (by omega)]
      exact y1
    · exact absurd h.1 (by decide)
    · exact absurd h.1 (by decide)
    · exact absurd h.1 (by decide)
    · exact absurd h.1 (by decide)
  · have g1 := hB k k1 (by omega)
    have g2 := hB (k + 1) (by omega) k2
    have hx : pr_p S5 ≤ x ∧ x < pr_p S6 := ⟨by omega, by omega⟩
    dsimp only
    rw [dif_pos hx]
    have sp := Classical.choose_spec (hloc x hx.1 hx.2)
    exact uq_k hPm sp.1 ⟨k1, k2⟩ sp.2 ⟨x1, x2⟩
  · have hx : pr_p S5 ≤ x ∧ x < pr_p S6 := ⟨x1, x2⟩
    dsimp only
    rw [dif_pos hx]
    exact (Classical.choose_spec (hloc x x1 x2)).1
  · rw [ea6] at v1
    rw [ev6] at v2
    rw [ea6]
    show vk.2 v = _
    rcases Nat.lt_or_ge v (pr_a S5 + i) with u | u
    · rw [if_pos u]; exact hk0 v v1 u
    · rw [if_neg (by omega)]
      rcases Nat.lt_or_ge v (pr_a S5 + i + o) with u2 | u2
      · rw [if_pos u2]; exact hk1 v u u2
      · rw [if_neg (by omega)]; exact hk2 v u2 v2
end
