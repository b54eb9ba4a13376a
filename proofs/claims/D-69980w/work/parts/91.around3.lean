/-! around: its other loops; the contract -/
set_option maxRecDepth 100000
theorem nI_m1 {n : Nat} : nI (n + 1) + (-1) = nI n := by
  rw [← nI_1, Int32.add_assoc, show (1 : Int32) + -1 = 0 by decide, Int32.add_zero]
theorem nI_m1_lt {p : Nat} (h : p < 2 ^ 31) : nI p + (-1) < nI p := by
  cases p with
  | zero => decide
  | succ p =>
    rw [nI_m1]
    exact nI_lt (Nat.lt_succ_self _) (by omega)
section
variable {z : MZ} {jm : MJ} {σ : MS} {a f k p b l m : Nat}
theorem around_e (hf : f < 60) (h12 : σ.2 12 f = nI a) (hH : ar_H σ a k p b l m) : ∀ M σ1 E, p + M ≤ b + 1 → ar_same σ σ1 → (∀ E, ml_V z mX6_around jm 349 [(0, vR (some z.2.1)), (1, vI (nI f)), (2, vI (nI k)), (3, vI (nI b))] [] (ar_e a p M σ1) E jm.2.1) → ml_V z mX6_around jm 164 [(0, vR (some z.2.1)), (1, vI (nI f)), (2, vI (nI k)), (3, vI (nI b)), (5, vI (nI (p + M) + (-1)))] [] σ1 E jm.2.1 := by
  intro M
  induction M with
  | zero =>
    intro σ1 E hM hs K
    obtain ⟨h1, h2, h3, h4, h5, h6, h7, h8, h9, h10, h11⟩ := hH.same hs
    refine mbaround_164 (vp_in_nI (by omega) (by decide)) (fun _ => K _) (fun q => absurd (by rw [nI_clamp (n := k) (by omega), h1]; exact nI_m1_lt (by omega)) q)
  | succ M ih =>
    intro σ1 E hM hs K
    obtain ⟨h1, h2, h3, h4, h5, h6, h7, h8, h9, h10, h11⟩ := hH.same hs
    obtain ⟨c1, c2, c3⟩ := h11 (p + M) (by omega) (by omega)
    have ek : kls σ1 (p + M) = kls σ (p + M) := kls_same hs _
    have hlen : (kls σ1 (p + M)).length ≤ p + M := by
      have g := (hH.2.2.2.2.2.2.2.2.2.2 (p + M) (by omega) (by omega)).1
      rw [ek]
      unfold kls
      have : ∀ (B : Nat → Int32) (f : Nat) (x : Int32), (chf B f x).length ≤ f := by
        intro B f
        induction f with
        | zero => intro x; exact Nat.le_refl _
        | succ f ih =>
          intro x
          show (if x < 0 then [] else _).length ≤ _
          split
          · exact Nat.zero_le _
          · simp only [List.length_cons]
            have := ih (B x.toNatClampNeg)
            omega
      exact this _ _ _
    rw [show p + (M + 1) = p + M + 1 by omega, nI_m1]
    refine mbaround_164 (vp_in_nI (by omega) (by decide)) (fun q => by
      rw [nI_clamp (n := k) (by omega), h1] at q
      exact absurd ((nI_ltI (by omega) (by omega)).1 q) (by omega)) (fun _ => ?_)
    refine mbaround_175 (vp_in_nI (by omega) (by decide)) ?_
    rw [nI_clamp (n := p + M) (by omega), show (0 : Int32) = nI 0 from rfl]
    refine around_k hf h12 hH (e := p + M) ⟨by omega, by omega⟩ (kls σ1 (p + M)) 0 _ σ1 _ (by rw [hs.2 35 (by omega)] at c1; exact c1) (fun y hy => by have := (c2 y hy).2; omega) (by omega) hs (fun E => ?_)
    refine mbaround_343 ?_
    exact ih _ _ (by omega) (hs.tr (ar_k_same _ _ _)) K
theorem around_w (hH : ar_H σ a k p b l m) : ∀ M e σ1 E, e + M = b + 1 → p ≤ e → ar_same σ σ1 → (∀ E, ml_V z mX6_around jm 403 [(0, vR (some z.2.1)), (1, vI (nI f)), (2, vI (nI k))] [] (ar_w M e σ1) E jm.2.1) → ml_V z mX6_around jm 357 [(0, vR (some z.2.1)), (1, vI (nI f)), (2, vI (nI k)), (3, vI (nI b)), (5, vI (nI e))] [] σ1 E jm.2.1 := by
  intro M
  induction M with
  | zero =>
    intro e σ1 E hM hp hs K
    obtain ⟨h1, h2, h3, h4, h5, h6, h7, h8, h9, h10, h11⟩ := hH.same hs
    exact mbaround_357 (fun _ => K _) (fun q => absurd (nI_lt (by omega) (by omega)) q)
  | succ M ih =>
    intro e σ1 E hM hp hs K
    obtain ⟨h1, h2, h3, h4, h5, h6, h7, h8, h9, h10, h11⟩ := hH.same hs
    obtain ⟨c1, c2, -⟩ := h11 e hp (by omega)
    have ce : (nI e).toNatClampNeg = e := nI_clamp (by omega)
    have vi : vp_in (nI e) 66000 := vp_in_nI (by omega) (by decide)
    have st : ∀ E s2, s2 = (if σ1.2 34 e < 0 then nI e else σ1.2 45 (σ1.2 34 e).toNatClampNeg) → ml_V z mX6_around jm 396 [(0, vR (some z.2.1)), (1, vI (nI f)), (2, vI (nI k)), (3, vI (nI b)), (5, vI (nI e))] [vI s2, vI (nI e), vR (some (z.2.2.1 45))] σ1 E jm.2.1 := by
      intro E s2 hq
      subst hq
      refine mbaround_396 vi ?_
      rw [ce, nI_1]
      exact ih (e + 1) _ _ (by omega) (by omega) (hs.tr (ar_same.sa (by decide))) K
    refine mbaround_357 (fun q => absurd ((nI_ltI (by omega) (by omega)).1 q) (by omega)) (fun _ => ?_)
    refine mbaround_363 vi (fun q => ?_) (fun q => ?_)
    · rw [ce] at q
      have hx : ∃ x, σ1.2 34 e = nI x ∧ x < e := by
        generalize hk : kls σ1 e = ks at c1 c2
        match ks, c1, c2 with
        | [], c1, _ => exact absurd q (Int32.not_le.2 c1)
        | x :: _, c1, c2 => exact ⟨x, c1.1, (c2 x List.mem_cons_self).2⟩
      obtain ⟨x, hx1, hx2⟩ := hx
      refine mbaround_384 vi (by rw [ce, hx1]; exact vp_in_nI (by omega) (by decide)) (st _ _ ?_)
      rw [ce, if_neg (Int32.not_lt.2 q)]
    · rw [ce] at q
      refine mbaround_379 (st _ _ ?_)
      rw [if_pos (Int32.not_le.1 q)]
theorem X6_around_C {d q q' : Nat} (hf : f < 60) (h12 : σ.2 12 f = nI a) (h15 : σ.2 15 f = nI q) (h15' : σ.2 15 (f + 1) = nI q') (hqq : q ≤ q') (hq5 : q' ≤ 5000) (hH : ∀ k, q ≤ k → k < q' → ∃ p b l m, ar_H σ a k p b l m) : ml_C z mX6_around d 0 [vR (some z.2.1), vI (nI f)] σ (fun v σ' _ => v = none ∧ σ' = ar_all a (q' - q) q σ) (fun _ _ _ => False) := by
  refine ml_C_of (by decide) rfl (Nat.le_of_ble_eq_true rfl) ?_
  have cf : (nI f).toNatClampNeg = f := nI_clamp (by omega)
  refine mbaround_0 (vp_in_nI (by omega) (by decide)) ?_
  rw [cf, h15]
  have lp : ∀ M k σ1 E, k + M = q' → q ≤ k → ar_same σ σ1 → ar_all a M k σ1 = ar_all a (q' - q) q σ → ml_V z mX6_around (d, 0, (fun v σ' _ => v = none ∧ σ' = ar_all a (q' - q) q σ), fun _ _ _ => False) 7 [(0, vR (some z.2.1)), (1, vI (nI f)), (2, vI (nI k))] [] σ1 E 0 := by
    intro M
    induction M with
    | zero =>
      intro k σ1 E hk hq hs he
      have e15 : σ1.2 15 (nI f + 1).toNatClampNeg = nI q' := by rw [nI_1, nI_clamp (by omega), hs.2 15 (by omega), h15']
      exact mbaround_7 (by rw [nI_1]; exact vp_in_nI (by omega) (by decide)) (fun _ => mbaround_409 (fun G _ => ⟨rfl, he⟩)) (fun q => absurd (by rw [e15]; exact (nI_leI (by omega) (by omega)).2 (by omega)) q)
    | succ M ih =>
      intro k σ1 E hk hq hs he
      have e15 : σ1.2 15 (nI f + 1).toNatClampNeg = nI q' := by rw [nI_1, nI_clamp (by omega), hs.2 15 (by omega), h15']
      obtain ⟨p, b, l, m, hH1⟩ := hH k hq (by omega)
      have hH2 := hH1.same hs
      obtain ⟨h1, h2, h3, h4, h5, h6, h7, h8, h9, h10, h11⟩ := id hH2
      have ck : (nI k).toNatClampNeg = k := nI_clamp (by omega)
      have cb : (nI b).toNatClampNeg = b := nI_clamp (by omega)
      have vk : vp_in (nI k) 17000 := vp_in_nI (by omega) (by decide)
      have h12' : σ1.2 12 f = nI a := by rw [hs.2 12 (by omega), h12]
      have eq : ar_q a k σ1 = ar_q0 a k p b l m σ1 := by
        rw [ar_q, h1, h2, h3, h4, jg_n, jg_n, jg_n, jg_n, nI_clamp (n := p) (by omega), nI_clamp (n := b) (by omega), nI_clamp (n := l) (by omega), nI_clamp (n := l + m) (by omega), show l + m - l = m by omega]
      refine mbaround_7 (by rw [nI_1]; exact vp_in_nI (by omega) (by decide)) (fun q => by
        rw [e15] at q
        exact absurd ((nI_leI (by omega) (by omega)).1 q) (by omega)) (fun _ => ?_)
      refine mbaround_19 vk (vp_in_nI (by omega) (by decide)) ?_
      rw [ck, h2, h3]
      refine around_l (σ := σ1) hf h12' hH2 (fun E => ?_) m l σ1 _ rfl (Nat.le_refl l) ar_same.rf rfl
      have sl : ar_same σ1 (ar_l a l k m l σ1) := ar_l_same _ _ _
      have hH3 := hH2.same sl
      have h12l : (ar_l a l k m l σ1).2 12 f = nI a := by rw [sl.2 12 (by omega), h12']
      have hpost : ∀ E, ml_V z mX6_around (d, 0, (fun v σ' _ => v = none ∧ σ' = ar_all a (q' - q) q σ), fun _ _ _ => False) 403 [(0, vR (some z.2.1)), (1, vI (nI f)), (2, vI (nI k))] [] (ar_q0 a k p b l m σ1) E 0 := by
        intro E
        refine mbaround_403 ?_
        rw [nI_1, ← eq]
        exact ih (k + 1) _ _ (by omega) (by omega) (hs.tr ar_q_same) he
      revert hpost
      unfold ar_q0
      generalize ar_l a l k m l σ1 = σ2 at *
      intro hpost
      obtain ⟨g1, g2, g3, g4, g5, g6, g7, g8, g9, g10, g11⟩ := id hH3
      obtain ⟨x, hx1, hx2⟩ := g10 l (Nat.le_refl l) (by omega)
      have ex : σ2.2 12 (nI f).toNatClampNeg + σ2.2 28 (σ2.2 26 (nI k).toNatClampNeg).toNatClampNeg = nI (a + x) := by rw [cf, ck, g3, nI_clamp (n := l) (by omega), hx1, h12l, nI_add]
      have ev : jg_v σ2 l = x := by rw [jg_v, hx1, nI_clamp (by omega)]
      have vb : vp_in (nI b) 66000 := vp_in_nI (by omega) (by decide)
      have st : ∀ E s2, s2 = (if σ2.2 36 b = -2 then σ2.2 22 (a + jg_v σ2 l) else σ2.2 36 b) → ml_V z mX6_around (d, 0, (fun v σ' _ => v = none ∧ σ' = ar_all a (q' - q) q σ), fun _ _ _ => False) 153 [(0, vR (some z.2.1)), (1, vI (nI f)), (2, vI (nI k)), (3, vI (nI b))] [vI s2, vI (nI b), vR (some (z.2.2.1 43))] σ2 E 0 := by
        intro E s2 hq
        subst hq
        refine mbaround_153 vb vb ?_
        rw [cb]
        have eb : nI b = nI (p + (b + 1 - p)) + (-1) := by rw [show p + (b + 1 - p) = b + 1 by omega, nI_m1]
        have key : ml_V z mX6_around (d, 0, (fun v σ' _ => v = none ∧ σ' = ar_all a (q' - q) q σ), fun _ _ _ => False) 164 [(0, vR (some z.2.1)), (1, vI (nI f)), (2, vI (nI k)), (3, vI (nI b)), (5, vI (nI (p + (b + 1 - p)) + (-1)))] [] (ar_b σ2 a b l) (fun _ => True) 0 := by
          have hH4 := hH3.same (ar_b_same (a := a) (b := b) (l := l))
          refine around_e (σ := ar_b σ2 a b l) hf (by rw [ar_b_same.2 12 (by omega), h12l]) hH4 (b + 1 - p) (ar_b σ2 a b l) _ (by omega) ar_same.rf (fun E => ?_)
          have se : ar_same (ar_b σ2 a b l) (ar_e a p (b + 1 - p) (ar_b σ2 a b l)) := ar_e_same _ _
          have hH5 := hH4.same se
          refine mbaround_349 vk ?_
          rw [ck, hH5.1]
          exact around_w (σ := ar_e a p (b + 1 - p) (ar_b σ2 a b l)) hH5 (b + 1 - p) p _ _ (by omega) (Nat.le_refl p) ar_same.rf hpost
        rw [← eb] at key
        exact key
      refine mbaround_101 (vp_in_nI (by omega) (by decide)) (vp_in_nI (by omega) (by decide)) (by rw [ck, g3]; exact vp_in_nI (by omega) (by decide)) (by rw [ex]; exact vp_in_nI (by omega) (by decide)) vb (fun q => ?_) (fun q => ?_)
      · rw [cb] at q
        refine mbaround_147 vb (st _ _ ?_)
        rw [cb, if_neg q]
      · rw [cb] at q
        refine mbaround_142 (st _ _ ?_)
        rw [if_pos q, ex, nI_clamp (n := a + x) (by omega), ev]
  exact lp (q' - q) q σ _ (by omega) (Nat.le_refl q) ar_same.rf rfl
end
