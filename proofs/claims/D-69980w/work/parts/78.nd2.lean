/-! a node as a function -/
set_option maxRecDepth 100000
def nd_0 (S : MS) (c e : Nat) : MS := ml_sa (ml_sa (ml_sa S 10 (pr_N S) (nI c)) 11 (pr_N S) (nI (e - c))) 12 (pr_N S) (S.1 19)
def nd_1 (S : MS) : MS := ml_sa S 13 (pr_N S) (S.1 19 - S.2 12 (pr_N S))
def nd_2 (S : MS) : MS := ml_sa S 14 (pr_N S) (S.1 19 - S.2 12 (pr_N S) - S.2 13 (pr_N S))
def nd_3 (S : MS) : MS := ml_sa (ml_sa (ml_sa (ml_sa S 12 (pr_N S + 1) (S.1 19)) 15 (pr_N S) (S.1 30)) 16 (pr_N S) 0) 17 (pr_N S) 0
def nd_4 (S : MS) : MS := ml_sa S 15 (pr_N S + 1) (S.1 30)
def nd_gv (S : MS) : Nat → Nat → Bool
  | 0, _ => true
  | m + 1, v => decide (S.2 23 v = 1) && nd_gv S m (v + 1)
def nd_jg : Nat → Nat → MS → (Int32 × Nat) ⊕ MS
  | 0, _, S => .inr S
  | m + 1, k, S => match jg S k with
    | .inl kd => .inl (kd, (S.2 25 k).toNatClampNeg)
    | .inr S' => nd_jg m (k + 1) S'
section
variable (T : Nat → Int32) (n f : Nat)
def nd_vr (c : Nat) (S : MS) : Option PE :=
  if lx_isW T n c "var" then pr_b (pg_group T n f true (lx_next T n c) S) fun _ c1 S1 => if lx_kind T n c1 = 59 then pg_vars T n f f (lx_next T n c1) S1 else pr_er 1 c1
  else pr_ok 0 c S
def nd_hd (c : Nat) (S : MS) : Option PE :=
  pr_b (pg_groups T n f c S) fun _ c2 S2 =>
  if lx_isW T n c2 "returns" then pr_b (pg_groups T n f (lx_next T n c2) (nd_1 S2)) fun _ c3 S3 =>
    if lx_kind T n c3 = 59 then nd_vr T n f (lx_next T n c3) (nd_2 S3) else pr_er 1 c3
  else pr_er 1 c2
def nd_en (k0 : Nat) (c : Nat) (S : MS) : Option PE :=
  if nd_gv S (pr_v S - (pr_a S + pr_i S)) (pr_a S + pr_i S) = true then
    match nd_jg (pr_k S - k0) k0 (nd_4 S) with
    | .inl (kd, pl) => pr_er kd pl
    | .inr S7 => pr_ok 0 (lx_next T n c) (ml_sf S7 18 (nI (pr_N S7 + 1)))
  else pr_er 2 c
def nd_bd (c : Nat) (S : MS) : Option PE :=
  if lx_isW T n c "let" then pr_b (pe_eqs T n f f (lx_next T n c) (nd_3 S)) fun _ c6 S6 => nd_en T n (pr_k S) c6 S6
  else pr_er 1 c
def nd (c : Nat) (S : MS) : Option PE :=
  if lx_isW T n c "node" then
    if pr_N S = 59 then pr_er 3 c
    else if lx_name T n (lx_next T n c) then
      if pr_fn n S (lx_next T n c) < pr_N S then pr_er 2 (lx_next T n c)
      else pr_b (nd_hd T n f (lx_next T n (lx_next T n c)) (nd_0 S (lx_next T n c) (lx_end T n (lx_next T n c)))) fun _ c5 S5 => nd_bd T n f c5 S5
    else pr_er 1 (lx_next T n c)
  else pr_er 1 c
end
/-- between nodes -/
def nd_I (n c : Nat) (S : MS) : Prop := pj_V n S ∧ pr_a S = pr_v S ∧ pr_v S ≤ c ∧ c ≤ n ∧ n ≤ 5000 ∧ S.1 40 = nI (pr_p S) ∧ pr_p S ≤ c ∧ S.1 30 = nI (pr_k S) ∧ pr_k S ≤ c ∧ S.1 31 = nI (pr_l S) ∧ pr_l S ≤ c ∧ S.2 26 (pr_k S) = nI (pr_l S)
/-- what a node's head changes -/
def nd_hs (b : Nat) (S S' : MS) : Prop := (∀ k, k ≠ 19 → S'.1 k = S.1 k) ∧ (∀ k, ¬ (13 ≤ k ∧ k ≤ 14) → ¬ (20 ≤ k ∧ k ≤ 24) → S'.2 k = S.2 k) ∧ (∀ k j, 13 ≤ k ∧ k ≤ 14 → j ≠ pr_N S → S'.2 k j = S.2 k j) ∧ ∀ k j, 20 ≤ k ∧ k ≤ 24 → j < b → S'.2 k j = S.2 k j
theorem nd_hs.N {b : Nat} {S S' : MS} (h : nd_hs b S S') : pr_N S' = pr_N S := by rw [pr_N, pr_N, h.1 18 (by omega)]
theorem nd_hs.a {b : Nat} {S S' : MS} (h : nd_hs b S S') : pr_a S' = pr_a S := by rw [pr_a, pr_a, h.N, h.2.1 12 (by omega) (by omega)]
theorem nd_hs.T {b : Nat} {S S' : MS} (h : nd_hs b S S') : S'.2 0 = S.2 0 := h.2.1 0 (by omega) (by omega)
theorem nd_hs.px {b : Nat} {S S' : MS} (h : nd_hs b S S') : md_px S S' := ⟨⟨fun k hk => h.1 k (by omega), by rw [h.2.1 12 (by omega) (by omega)]⟩, fun k hk => h.2.1 k (by omega) (by omega)⟩
theorem nd_hs.tr {b b2 : Nat} {S S1 S2 : MS} (h : nd_hs b S S1) (h2 : nd_hs b2 S1 S2) (hb : b ≤ b2) : nd_hs b S S2 :=
  ⟨fun k hk => (h2.1 k hk).trans (h.1 k hk), fun k a c => (h2.2.1 k a c).trans (h.2.1 k a c), fun k j a c => (h2.2.2.1 k j a (by rw [h.N]; exact c)).trans (h.2.2.1 k j a c), fun k j a c => (h2.2.2.2 k j a (by omega)).trans (h.2.2.2 k j a c)⟩
theorem pg_same.hs {b : Nat} {S S' : MS} (h : pg_same b S S') : nd_hs b S S' :=
  ⟨h.1, fun k _ c => h.2.1 k c, fun k j a _ => by rw [h.2.1 k (by omega)], fun k j _ c => h.2.2 k j c⟩
theorem nd_1_hs {b : Nat} {S : MS} : nd_hs b S (nd_1 S) := ⟨fun _ _ => rfl, fun k a _ => by
  funext j
  unfold nd_1
  rw [ml_sa_a, if_neg (by omega)], fun k j _ c => by
  unfold nd_1
  rw [ml_sa_a]
  split <;> first | rfl | rw [if_neg c], fun k j a _ => by
  unfold nd_1
  rw [ml_sa_a, if_neg (by omega)]⟩
theorem nd_2_hs {b : Nat} {S : MS} : nd_hs b S (nd_2 S) := ⟨fun _ _ => rfl, fun k a _ => by
  funext j
  unfold nd_2
  rw [ml_sa_a, if_neg (by omega)], fun k j _ c => by
  unfold nd_2
  rw [ml_sa_a]
  split <;> first | rfl | rw [if_neg c], fun k j a _ => by
  unfold nd_2
  rw [ml_sa_a, if_neg (by omega)]⟩
theorem nd_1_I {n c : Nat} {S : MS} (h : pg_I n c S) : pg_I n c (nd_1 S) := h
theorem nd_2_I {n c : Nat} {S : MS} (h : pg_I n c S) : pg_I n c (nd_2 S) := h
theorem nd_vr_ok {T : Nat → Int32} {n f c e c' : Nat} {S S' : MS} (h : nd_vr T n f c S = some (.inr (e, c', S'))) (hI : pg_I n c S) (hT : S.2 0 = T) : e = 0 ∧ pg_I n c' S' ∧ c ≤ c' ∧ pg_same (pr_v S) S S' ∧ pr_v S ≤ pr_v S' ∧ ∀ b, nd_01 b S → nd_01 b S' := by
  unfold nd_vr at h
  split at h
  · rename_i g
    obtain ⟨t1, t2⟩ := lx_tkw g
    obtain ⟨e1, c1, S1, h1, h⟩ := pr_b_ok h
    obtain ⟨a1, a2, a3, a4, a5⟩ := pg_group_ok h1 ⟨hI.1, by have := hI.2.1; omega, t2, hI.2.2.2⟩ hT
    split at h
    · rename_i g
      obtain ⟨t3, t4⟩ := lx_tk (T := T) (n := n) (c := c1) (by rw [g]; decide)
      obtain ⟨b1, b2, b3, b4, b5, b6⟩ := pg_vars_ok _ _ _ _ _ _ h ⟨a2.1, by have := a2.2.1; omega, t4, a2.2.2.2⟩ (by rw [a4.T]; exact hT)
      exact ⟨b1, b2, by omega, a4.tr b4 (by omega), by omega, fun b hb => b6 b (hb.g a4 (pg_group_01 h1))⟩
    · cases h
  · have h' := Sum.inr.inj (Option.some.inj h)
    cases h'
    exact ⟨rfl, hI, Nat.le_refl _, pg_same.rf, Nat.le_refl _, fun _ h => h⟩
theorem nd_hd_ok {T : Nat → Int32} {n f c e c' : Nat} {S S' : MS} (h : nd_hd T n f c S = some (.inr (e, c', S'))) (hI : pg_I n c S) (hT : S.2 0 = T) (hab : pr_a S = pr_v S) : e = 0 ∧ pg_I n c' S' ∧ c + 1 ≤ c' ∧ nd_hs (pr_v S) S S' ∧ nd_01 (pr_v S) S' ∧ ∃ i o, 1 ≤ i ∧ 1 ≤ o ∧ S'.2 13 (pr_N S) = nI i ∧ S'.2 14 (pr_N S) = nI o ∧ pr_a S + i + o ≤ pr_v S' := by
  obtain ⟨v1, v2, v3, v4, v5, v6, v7, v8, v9⟩ := hI.1.N
  unfold nd_hd at h
  obtain ⟨e1, c2, S2, h1, h⟩ := pr_b_ok h
  obtain ⟨a1, a2, a3, a4, a5⟩ := pg_groups_ok h1 hI hT
  have hz : nd_01 (pr_v S) S := fun v q1 q2 => by omega
  have z2 := pg_groups_01 h1 hI hT _ hz
  obtain ⟨w1, w2, w3, w4, w5, w6, w7, w8, w9⟩ := a2.1.N
  split at h
  · rename_i g
    obtain ⟨t1, t2⟩ := lx_tkw g
    obtain ⟨e3, c3, S3, h3, h⟩ := pr_b_ok h
    have hI2 : pg_I n (lx_next T n c2) (nd_1 S2) := nd_1_I ⟨a2.1, by have := a2.2.1; omega, t2, a2.2.2.2⟩
    have hT2 : (nd_1 S2).2 0 = T := a4.T.trans hT
    obtain ⟨b1, b2, b3, b4, b5⟩ := pg_groups_ok h3 hI2 hT2
    have z3 := pg_groups_01 h3 hI2 hT2 _ (show nd_01 (pr_v S) (nd_1 S2) from z2)
    obtain ⟨x1, x2, x3, x4, x5, x6, x7, x8, x9⟩ := b2.1.N
    split at h
    · rename_i g
      obtain ⟨t3, t4⟩ := lx_tk (T := T) (n := n) (c := c3) (by rw [g]; decide)
      obtain ⟨d1, d2, d3, d4, d5, d6⟩ := nd_vr_ok h (nd_2_I ⟨b2.1, by have := b2.2.1; omega, t4, b2.2.2.2⟩) ((b4.T).trans hT2)
      have hv12 : pr_v (nd_1 S2) = pr_v S2 := rfl
      have hv34 : pr_v (nd_2 S3) = pr_v S3 := rfl
      have hs2 : nd_hs (pr_v S) S S2 := a4.hs
      have hs3 : nd_hs (pr_v S) S S3 := (hs2.tr (nd_1_hs (b := pr_v S)) (Nat.le_refl _)).tr b4.hs (by omega)
      have hs4 : nd_hs (pr_v S) S (nd_2 S3) := hs3.tr (nd_2_hs (b := pr_v S)) (Nat.le_refl _)
      have hs5 := hs4.tr d4.hs (by omega)
      have eN2 : pr_N S2 = pr_N S := hs2.N
      have eN3 : pr_N S3 = pr_N S := hs3.N
      have i13 : (nd_1 S2).2 13 (pr_N S) = nI (pr_v S2 - pr_v S) := by
        unfold nd_1
        rw [eN2, ml_sa_a, if_pos rfl, if_pos rfl, w3, a4.2.1 12 (by omega), v5, hab, pk_sub (by omega)]
      have i13' : S3.2 13 (pr_N S) = nI (pr_v S2 - pr_v S) := by rw [b4.2.1 13 (by omega)]; exact i13
      have o14 : (nd_2 S3).2 14 (pr_N S) = nI (pr_v S3 - pr_v S2) := by
        unfold nd_2
        have e12 : S3.2 12 (pr_N S) = nI (pr_v S) := by rw [hs3.2.1 12 (by omega) (by omega), v5, hab]
        rw [eN3, ml_sa_a, if_pos rfl, if_pos rfl, x3, e12, i13', pk_sub (by omega), pk_sub (by omega)]
        congr 1
        omega
      refine ⟨d1, d2, by omega, hs5, d6 _ z3, pr_v S2 - pr_v S, pr_v S3 - pr_v S2, by omega, by omega, ?_, ?_, by omega⟩
      · rw [d4.2.1 13 (by omega)]
        exact i13'
      · rw [d4.2.1 14 (by omega)]
        exact o14
    · cases h
  · cases h
