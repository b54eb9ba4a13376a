/-! a node as a function; what it leaves -/
set_option maxRecDepth 100000
theorem pg_wh_24 {T : Nat → Int32} {n s b c e c' : Nat} {S S' : MS} (h : pg_wh T n s b c S = some (.inr (e, c', S'))) : S'.2 24 = S.2 24 ∧ pr_v S' = pr_v S := by
  unfold pg_wh at h
  split at h
  · cases h
  split at h
  · cases h
  split at h
  · cases h
  have h' := Sum.inr.inj (Option.some.inj h)
  cases h'
  exact ⟨rfl, rfl⟩
theorem pg_group_01 {T : Nat → Int32} {n f c e c' : Nat} {vars : Bool} {S S' : MS} (h : pg_group T n f vars c S = some (.inr (e, c', S'))) : ∀ v, pr_v S ≤ v → v < pr_v S' → S'.2 24 v = 0 ∨ S'.2 24 v = 1 := by
  obtain ⟨e1, c1, S1, h1, h⟩ := pr_b_ok h
  have fl : ∀ (P : Prop) [Decidable P] v, pr_v S ≤ v → v < pr_v S1 → (pg_fill S1 24 (if P then 1 else 0) (pr_v S) (pr_v S1)).2 24 v = 0 ∨ (pg_fill S1 24 (if P then 1 else 0) (pr_v S) (pr_v S1)).2 24 v = 1 := by
    intro P _ v q1 q2
    have e1 : (pg_fill S1 24 (if P then 1 else 0) (pr_v S) (pr_v S1)).2 24 v = if P then 1 else 0 := by
      show (ml_saA S1 24 _).2 24 v = _
      rw [ml_saA_a, if_pos rfl, if_pos ⟨q1, q2⟩]
    rw [e1]
    split
    · exact Or.inr rfl
    · exact Or.inl rfl
  have wh : ∀ (P : Prop) [Decidable P] s c2, pg_wh T n s (pr_v S) c2 (pg_fill S1 24 (if P then 1 else 0) (pr_v S) (pr_v S1)) = some (.inr (e, c', S')) → ∀ v, pr_v S ≤ v → v < pr_v S' → S'.2 24 v = 0 ∨ S'.2 24 v = 1 := by
    intro P _ s c2 h v q1 q2
    obtain ⟨e1, e2⟩ := pg_wh_24 h
    rw [e1]
    exact fl P v q1 (by rw [e2] at q2; exact q2)
  split at h
  · split at h
    · cases h
    split at h
    · split at h
      · exact wh _ _ _ h
      · exact wh _ _ _ h
    · have h' := Sum.inr.inj (Option.some.inj h)
      cases h'
      exact fl _
  · cases h
/-- types in between -/
def nd_01 (b : Nat) (S : MS) : Prop := ∀ v, b ≤ v → v < pr_v S → S.2 24 v = 0 ∨ S.2 24 v = 1
theorem nd_01.g {b : Nat} {S S' : MS} (h : nd_01 b S) (hs : pg_same (pr_v S) S S') (h2 : nd_01 (pr_v S) S') : nd_01 b S' := fun v q1 q2 => by
  rcases Nat.lt_or_ge v (pr_v S) with q | q
  · rw [hs.2.2 24 v q]
    exact h v q1 q
  · exact h2 v q q2
theorem pg_more_01 {T : Nat → Int32} {n f0 : Nat} : ∀ f c S e c' S', pg_more T n f0 f c S = some (.inr (e, c', S')) → pg_I n c S → S.2 0 = T → ∀ b, nd_01 b S → nd_01 b S' := by
  intro f
  induction f with
  | zero => intro c S e c' S' h; cases h
  | succ f ih =>
    intro c S e c' S' h hI hT b hb
    unfold pg_more at h
    split at h
    · rename_i g
      obtain ⟨t1, t2⟩ := lx_tk (T := T) (n := n) (c := c) (by rw [g]; decide)
      obtain ⟨e1, c1, S1, h1, h⟩ := pr_b_ok h
      obtain ⟨a1, a2, a3, a4, a5⟩ := pg_group_ok h1 ⟨hI.1, by have := hI.2.1; omega, t2, hI.2.2.2⟩ hT
      exact ih _ _ _ _ _ h a2 (by rw [a4.T]; exact hT) b (hb.g a4 (pg_group_01 h1))
    · split at h
      · have h' := Sum.inr.inj (Option.some.inj h)
        cases h'
        exact hb
      · cases h
theorem pg_groups_01 {T : Nat → Int32} {n f c e c' : Nat} {S S' : MS} (h : pg_groups T n f c S = some (.inr (e, c', S'))) (hI : pg_I n c S) (hT : S.2 0 = T) : ∀ b, nd_01 b S → nd_01 b S' := by
  intro b hb
  unfold pg_groups at h
  split at h
  · rename_i g
    obtain ⟨t1, t2⟩ := lx_tk (T := T) (n := n) (c := c) (by rw [g]; decide)
    obtain ⟨e1, c1, S1, h1, h⟩ := pr_b_ok h
    obtain ⟨a1, a2, a3, a4, a5⟩ := pg_group_ok h1 ⟨hI.1, by have := hI.2.1; omega, t2, hI.2.2.2⟩ hT
    exact pg_more_01 _ _ _ _ _ _ h a2 (by rw [a4.T]; exact hT) b (hb.g a4 (pg_group_01 h1))
  · cases h
theorem pg_vars_ok {T : Nat → Int32} {n f0 : Nat} : ∀ f c S e c' S', pg_vars T n f0 f c S = some (.inr (e, c', S')) → pg_I n c S → S.2 0 = T → e = 0 ∧ pg_I n c' S' ∧ c ≤ c' ∧ pg_same (pr_v S) S S' ∧ pr_v S ≤ pr_v S' ∧ ∀ b, nd_01 b S → nd_01 b S' := by
  intro f
  induction f with
  | zero => intro c S e c' S' h; cases h
  | succ f ih =>
    intro c S e c' S' h hI hT
    unfold pg_vars at h
    split at h
    · obtain ⟨e1, c1, S1, h1, h⟩ := pr_b_ok h
      obtain ⟨a1, a2, a3, a4, a5⟩ := pg_group_ok h1 hI hT
      split at h
      · rename_i g
        obtain ⟨t1, t2⟩ := lx_tk (T := T) (n := n) (c := c1) (by rw [g]; decide)
        obtain ⟨b1, b2, b3, b4, b5, b6⟩ := ih _ _ _ _ _ h ⟨a2.1, by have := a2.2.1; omega, t2, a2.2.2.2⟩ (by rw [a4.T]; exact hT)
        exact ⟨b1, b2, by omega, a4.tr b4 (by omega), by omega, fun b hb => b6 b (hb.g a4 (pg_group_01 h1))⟩
      · cases h
    · have h' := Sum.inr.inj (Option.some.inj h)
      cases h'
      exact ⟨rfl, hI, Nat.le_refl _, pg_same.rf, Nat.le_refl _, fun _ h => h⟩
/-! equations -/
theorem pl_ok.same {S S' : MS} {l l' : Nat} (h : pl_ok S l l') (hs : pq_same S S') (h28 : ∀ j, j < l' → S'.2 28 j = S.2 28 j) : pl_ok S' l l' := fun j h1 h2 => by
  rw [h28 j h2, hs.i, hs.a, hs.v]
  exact h j h1 h2
theorem pe_W.keep {T : Nat → Int32} {n k c p p' l l' : Nat} {S S' : MS} (h : pe_W T n S k c p p' l l') (hs : pq_same S S') (ho : pf_old (pr_k S) (pr_l S) (pr_p S) S S') (hk : k < pr_k S) (hp : p' ≤ pr_p S) (hl : l' ≤ pr_l S) : pe_W T n S' k c p p' l l' := by
  obtain ⟨w1, w2, w3, w4, w5, w6, w7, w8, w9, w10, w11, w12, w13⟩ := h
  obtain ⟨o1, o2, o3, o4⟩ := ho
  refine ⟨by rw [o1 25 k (Or.inl rfl) hk]; exact w1, w2, by rw [o1 29 k (Or.inr (Or.inr rfl)) hk]; exact w3, by rw [o1 27 k (Or.inr (Or.inl rfl)) hk]; exact w4, w5, by rw [o2 k (by omega)]; exact w6, by rw [o2 (k + 1) (by omega)]; exact w7, w8, ?_, ?_, ?_, ?_, w13⟩
  · rw [← w9]
    exact lw_cg (p' - 1) (p' - 1) (Nat.le_refl _) (fun j hj => o4 34 j (by omega) (by omega) (by omega))
  · exact w10.cgq hs (fun q j a b d => o4 q j a (by omega) (by omega)) (fun j a b => o4 35 j (by omega) (by omega) (by omega))
  · exact w11.same hs (fun j hj => o3 j (by omega))
  · intro q
    rw [o4 32 (p' - 1) (by omega) (by omega) (by omega)]
    exact w12 q
def nd_E (T : Nat → Int32) (n k0 : Nat) (S : MS) : Prop := ∀ k, k0 ≤ k → k < pr_k S → ∃ c p p' l l', pe_W T n S k c p p' l l' ∧ p' ≤ pr_p S ∧ l' ≤ pr_l S
theorem pe_eqs_ok {T : Nat → Int32} {n f0 : Nat} : ∀ f c S e c' S' k0, pe_eqs T n f0 f c S = some (.inr (e, c', S')) → pn_E n c S → S.2 26 (pr_k S) = nI (pr_l S) → k0 ≤ pr_k S → nd_E T n k0 S →
    e = 0 ∧ pn_E n c' S' ∧ S'.2 26 (pr_k S') = nI (pr_l S') ∧ c + 1 ≤ c' ∧ pq_same S S' ∧ pr_k S < pr_k S' ∧ lx_isW T n c' "tel" ∧ nd_E T n k0 S' := by
  intro f
  induction f with
  | zero => intro c S e c' S' k0 h; cases h
  | succ f ih =>
    intro c S e c' S' k0 h hE hB hk0 hW
    unfold pe_eqs at h
    obtain ⟨e1, c1, S1, h1, h⟩ := pr_b_ok h
    obtain ⟨a1, a2, a3, a4, a5, a6, a7, a8, a9⟩ := pe_eq_ok h1 hE hB
    have hp := a9.2.2.2.2.1
    have hl := a9.2.2.2.2.2.2.2.1
    have hW1 : nd_E T n k0 S1 := by
      intro k q1 q2
      rcases Nat.lt_or_ge k (pr_k S) with q | q
      · obtain ⟨c0, p, p', l, l', w, w2, w3⟩ := hW k q1 q
        exact ⟨c0, p, p', l, l', w.keep a5 a7 q w2 w3, by omega, by omega⟩
      · have e1 : k = pr_k S := by omega
        subst e1
        exact ⟨c, pr_p S, pr_p S1, pr_l S, pr_l S1, a9, Nat.le_refl _, Nat.le_refl _⟩
    split at h
    · rename_i g
      have h' := Sum.inr.inj (Option.some.inj h)
      cases h'
      exact ⟨rfl, a2, a3, a4, a5, by omega, g, hW1⟩
    · obtain ⟨b1, b2, b3, b4, b5, b6, b7, b8⟩ := ih _ _ _ _ _ k0 h a2 a3 (by omega) hW1
      exact ⟨b1, b2, b3, by omega, a5.tr b5, by omega, b7, b8⟩
