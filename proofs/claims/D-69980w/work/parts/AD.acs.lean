/-! around and countParts of all nodes: the step, the loop of read -/
set_option maxRecDepth 100000
theorem nfs_mono {T : Nat → Int32} {n : Nat} {S : MS} {A Q P L : Nat → Nat} (hF : nfs T n S A Q P L) : ∀ m x, x + m ≤ pr_N S → A x ≤ A (x + m) ∧ Q x ≤ Q (x + m) ∧ P x ≤ P (x + m) ∧ L x ≤ L (x + m) := by
  intro m
  induction m with
  | zero => intro x _; exact ⟨Nat.le_refl _, Nat.le_refl _, Nat.le_refl _, Nat.le_refl _⟩
  | succ m ih =>
    intro x hx
    have h := ih x (by omega)
    obtain ⟨i, o, -, ⟨b1, b2, b3, b4, b5, b6, b7, b8, b9, b10, b11, b12, b13, b14⟩, -⟩ := hF.2.1 (x + m) (by omega)
    rw [← Nat.add_assoc]
    omega
theorem ac_step {T : Nat → Int32} {n f : Nat} {S : MS} {A Q P L : Nat → Nat} (hF : nfs T n S A Q P L) (hN : pr_N S ≤ 60) (hf : f < pr_N S) (hI : ac_I S A Q f) : ac_same S (ac_f A Q f S) ∧ ac_I (ac_f A Q f S) A Q (f + 1) := by
  obtain ⟨i, o, hn⟩ := hF.2.1 f hf
  have hqq : Q f < Q (f + 1) := hn.2.1.2.2.2.2.1
  obtain ⟨g1, g2, g3, g4⟩ := ar_all_val hn (Q (f + 1) - Q f) (Q f) S (by omega) (Nat.le_refl _) ar_same.rf (fun x a b => by omega)
  have hs := ac_f_same (A := A) (Q := Q) (f := f) g2
  refine ⟨hs, ?_⟩
  generalize hS1 : ar_all (A f) (Q (f + 1) - Q f) (Q f) S = S1 at g1 g2 g3 g4
  have e48 : ∀ x, x ≠ 48 → (ac_f A Q f S).2 x = S1.2 x := fun x hx => by
    unfold ac_f
    rw [hS1]
    funext j
    rw [ml_sa_a, if_neg hx]
  have hfk : ∀ g, g < f + 1 → ∀ k, Q g ≤ k → k < Q (g + 1) → fk S1 (A g) k → fk (ac_f A Q f S) (A g) k := by
    intro g hg k k1 k2 h
    unfold fk fk0 fu_e ar_o kls jg_v at h ⊢
    rw [e48 29 (by omega), e48 27 (by omega), e48 26 (by omega), e48 43 (by omega), e48 44 (by omega), e48 45 (by omega), e48 46 (by omega), e48 47 (by omega), e48 36 (by omega), e48 22 (by omega), e48 28 (by omega), e48 34 (by omega), e48 35 (by omega), e48 32 (by omega), e48 33 (by omega)]
    exact h
  refine ⟨fun g hg k k1 k2 => hfk g hg k k1 k2 ?_, fun g hg => ?_⟩
  · rcases Nat.lt_or_ge g f with u | u
    · obtain ⟨i9, o9, hn9⟩ := hF.2.1 g (by omega)
      have hm1 := nfs_mono hF (f - (g + 1)) (g + 1) (by omega)
      rw [show g + 1 + (f - (g + 1)) = f by omega] at hm1
      obtain ⟨hj, -⟩ := nf_inj hn9
      have hk := hI.1 g u k k1 k2
      obtain ⟨⟨a1, a2, a3, a4, a5, a6⟩, ⟨b1, b2, b3, b4, b5, b6, b7, b8, b9, b10, b11, b12, b13, b14⟩, ⟨P9, L9, ⟨c1, c2, c3, c4⟩, c5, c6⟩, -⟩ := id hn9
      obtain ⟨c, hW, -⟩ := c6 k k1 k2
      obtain ⟨m1, m2, m3, m4⟩ := c5 k k1 k2
      have hW1 := hW.nv (g2.ac.nv g (P (g + 1)) (Q g) (Q (g + 1)) (L g) (L (g + 1))) m2 k1 k2 m3 m4
      rw [fk_eq hW (by omega) (by omega)] at hk
      rw [fk_eq hW1 (by omega) (by omega)]
      refine hk.keep ((hW.2.2.2.2.2.2.2.2.2.1.pt (by omega)).vw) hW.2.2.2.2.1 hW.2.2.2.2.2.2.2.1 (fun q hq => g2.2 q (by omega)) (fun x e hx e1 e2 => g3 x e hx (by omega)) (fun x j hx j1 j2 => g4 x _ hx ?_)
      have := hj j (by omega) (by omega)
      omega
    · have : g = f := by omega
      subst this
      exact g1 k k1 k2
  · rw [own_p_cg hs, ts_cg hs]
    rcases Nat.lt_or_ge g f with u | u
    · rw [← hI.2 g u]
      unfold ac_f
      rw [hS1, ml_sa_a, if_pos rfl, if_neg (by omega), g2.2 48 (by omega)]
    · have eg : g = f := by omega
      subst eg
      have hF1 := hF.ac g2.ac hN
      have hn1 := hn.ac g2.ac (by omega)
      obtain ⟨l1, l2⟩ := nf_lohi hn
      have hv := cp_all_val (h := ts (own_p S) S g) hn1 (fun x x1 x2 x3 => by
        rw [g2.2 32 (by omega)] at x3
        obtain ⟨c, y1, y2, y3, -⟩ := nf_callee hn x1 x2 x3
        rw [g2.2 33 (by omega), g2.2 48 (by omega), y3, y2, nI_clamp (by omega), hI.2 c y1, ts_fuel hF (c + 1) g c (by omega) (by omega) y1])
      have e1 : (ac_f A Q g S).2 48 g = cp_all S1 (Q (g + 1) - Q g) (Q g) 0 := by
        unfold ac_f
        rw [hS1, ml_sa_a, if_pos rfl, if_pos rfl]
      rw [e1, hv, own_p_cg g2.ac, ts_e_cg (g2.2 32 (by omega)) (g2.2 33 (by omega)), ts, l1, l2]
theorem acs_ok {T : Nat → Int32} {n : Nat} {A Q P L : Nat → Nat} : ∀ m f S, nfs T n S A Q P L → pr_N S ≤ 60 → f + m = pr_N S → ac_I S A Q f → ac_same S (acs A Q m f S) ∧ ac_I (acs A Q m f S) A Q (pr_N S) ∧ nfs T n (acs A Q m f S) A Q P L := by
  intro m
  induction m with
  | zero =>
    intro f S hF hN hf hI
    have : f = pr_N S := by omega
    subst this
    exact ⟨ac_same.rf, hI, hF⟩
  | succ m ih =>
    intro f S hF hN hf hI
    obtain ⟨h1, h2⟩ := ac_step hF hN (by omega) hI
    have eN : pr_N (ac_f A Q f S) = pr_N S := by rw [pr_N, pr_N, h1.1]
    obtain ⟨g1, g2, g3⟩ := ih (f + 1) (ac_f A Q f S) (hF.ac h1 hN) (by rw [eN]; exact hN) (by rw [eN]; omega) h2
    rw [eN] at g2
    exact ⟨h1.tr g1, g2, g3⟩
section
variable {z : MZ} {T : Nat → Int32} {n : Nat}
theorem nf_arH {f a a' i o q q' p p' l l' : Nat} {S : MS} (h : nf T n S f a a' i o q q' p p' l l') : ∀ k, q ≤ k → k < q' → ∃ p b l m, ar_H S a k p b l m := by
  intro k k1 k2
  obtain ⟨hj, hinj⟩ := nf_inj h
  obtain ⟨⟨a1, a2, a3, a4, a5, a6⟩, ⟨b1, b2, b3, b4, b5, b6, b7, b8, b9, b10, b11, b12, b13, b14⟩, ⟨P, L, ⟨c1, c2, c3, c4⟩, c5, c6⟩, d1, -⟩ := id h
  obtain ⟨c, hW, -⟩ := c6 k k1 k2
  obtain ⟨m1, m2, m3, m4⟩ := c5 k k1 k2
  obtain ⟨w1, w2, w3, w4, w5, w6, w7, w8, w9, w10, w11, w12, w13⟩ := hW
  refine ⟨P k, P (k + 1) - 1, L k, L (k + 1) - L k, w3, w4, w6, by rw [show L k + (L (k + 1) - L k) = L (k + 1) by omega]; exact w7, by omega, by omega, by omega, by omega, by omega, fun j j1 j2 => ?_, fun e e1 e2 => ?_⟩
  · obtain ⟨r1, r2, r3⟩ := hj j (by omega) (by omega)
    exact ⟨jg_v S j, r1, by omega⟩
  · obtain ⟨s1, s2, s3, s4⟩ := nf_call h (e := e) (by omega) (by omega)
    obtain ⟨g1, g2⟩ := w10 e e1 (by omega)
    have g1 : P k ≤ lw (S.2 34) e := g1
    refine ⟨s3, fun x hx => ?_, fun h26 => ?_⟩
    · have := (pw_k_mem _ _ s4).2 x hx
      omega
    · rcases s1 with ⟨q, -⟩ | ⟨q, -⟩ | ⟨q, -⟩ | ⟨q, -⟩ | ⟨q, m⟩ | ⟨q, r, m⟩ | ⟨q, r, m⟩ | ⟨q, m, v, s, s5, v1, v2, v3⟩
      · rw [q] at h26; exact absurd h26 (by decide)
      · rw [q] at h26; exact absurd h26 (by decide)
      · rw [q] at h26; exact absurd h26 (by decide)
      · rw [q] at h26; exact absurd h26 (by decide)
      · rw [q] at h26; exact absurd h26 (by decide)
      · rw [h26] at r; exact absurd r (by decide)
      · rw [h26] at r; exact absurd r (by decide)
      · rw [vw_a (by omega), vw_v, a1, a2, jg_n, jg_n, nI_clamp (n := a) (by omega), nI_clamp (n := a') (by omega)] at v1
        exact ⟨2 * v + s, v3, by omega⟩
theorem nf_cpH {f a a' i o q q' p p' l l' : Nat} {S : MS} (h : nf T n S f a a' i o q q' p p' l l') : ∀ k, q ≤ k → k < q' → ∃ p b, cp_H S k p b := by
  intro k k1 k2
  obtain ⟨⟨a1, a2, a3, a4, a5, a6⟩, ⟨b1, b2, b3, b4, b5, b6, b7, b8, b9, b10, b11, b12, b13, b14⟩, ⟨P, L, ⟨c1, c2, c3, c4⟩, c5, c6⟩, d1, -⟩ := id h
  obtain ⟨c, hW, -⟩ := c6 k k1 k2
  obtain ⟨m1, m2, m3, m4⟩ := c5 k k1 k2
  obtain ⟨w1, w2, w3, w4, w5, w6, w7, w8, w9, w10, w11, w12, w13⟩ := hW
  refine ⟨P k, P (k + 1) - 1, w3, w4, by omega, by omega, by omega, fun e e1 e2 e3 => ?_⟩
  obtain ⟨g, g1, g2, -⟩ := nf_callee h (e := e) (by omega) (by omega) e3
  exact ⟨g, by omega, g2⟩
/-- the loop over the nodes -/
theorem read_around {jm : MJ} {A Q P L : Nat → Nat} (hd : 20 ≤ jm.1) : ∀ m f σ E, nfs T n σ A Q P L → pr_N σ ≤ 60 → σ.1 18 = nI (pr_N σ) → f + m = pr_N σ → (∀ E, ml_V z mX6_read jm 139 [(0, vR (some z.2.1))] [] (acs A Q m f σ) E jm.2.1) → ml_V z mX6_read jm 115 [(0, vR (some z.2.1)), (1, vI (nI f))] [] σ E jm.2.1 := by
  intro m
  induction m with
  | zero =>
    intro f σ E hF hN h18 hf K
    refine mbread_115 (fun _ => K _) (fun q => absurd ?_ q)
    rw [h18]
    exact nI_le (by omega) (by omega)
  | succ m ih =>
    intro f σ E hF hN h18 hf K
    obtain ⟨i, o, hn⟩ := hF.2.1 f (by omega)
    obtain ⟨⟨a1, a2, a3, a4, a5, a6⟩, ⟨b1, b2, b3, b4, b5, b6, b7, b8, b9, b10, b11, b12, b13, b14⟩, -⟩ := id hn
    refine mbread_115 (fun q => ?_) (fun _ => ?_)
    · rw [h18] at q
      exact absurd ((nI_leI (by omega) (by omega)).1 q) (by omega)
    · refine mbread_123 (X6_around_C (d := 10) b7 a1 a5 a6 (by omega) b10 (nf_arH hn)) (by omega) (Nat.zero_le _) (ml_kr0 fun σ1 g => ?_) (fun E q G ⟨_, _, _, _, _, u⟩ => u.elim)
      have hs : ar_same σ σ1 := by
        rw [g]
        exact (ar_all_val hn (Q (f + 1) - Q f) (Q f) σ (by omega) (Nat.le_refl _) ar_same.rf (fun x a b => by omega)).2.1
      have hn1 := hn.ac hs.ac b7
      refine mbread_128 (X6_countParts_C (d := 10) (by omega) b7 (by rw [hs.2 15 (by omega)]; exact a5) (by rw [hs.2 15 (by omega)]; exact a6) (by omega) b10 (nf_cpH hn1)) (by omega) (Nat.zero_le _) (ml_kr0 fun σ2 g2 => ?_) (fun E q G ⟨_, _, _, _, _, u⟩ => u.elim)
      have e2 : σ2 = ac_f A Q f σ := by rw [g2, g]; rfl
      subst e2
      have hs2 := ac_f_same (A := A) (Q := Q) (f := f) (by rw [← g]; exact hs)
      have eN : pr_N (ac_f A Q f σ) = pr_N σ := by rw [pr_N, pr_N, hs2.1]
      refine mbread_133 ?_
      rw [nI_1]
      exact ih (f + 1) _ _ (hF.ac hs2 hN) (by rw [eN]; exact hN) (by rw [eN, hs2.1]; exact h18) (by rw [eN]; omega) K
end
