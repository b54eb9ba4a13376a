/-! a node's facts in a later state -/
set_option maxRecDepth 100000
/-- a clock that there may be: none asked, the node's own, on a bool of the node -/
def nq (S : MS) (c : Int32) : Prop := c = -2 ∨ c = -1 ∨ ∃ w, w < 2 ^ 30 ∧ c = nI w ∧ pr_a S + w / 2 < pr_v S ∧ S.2 24 (pr_a S + w / 2) ≠ 0
theorem jc_two_nq {S : MS} {a b c : Int32} (ha : nq S a) (hb : nq S b) (h : jc_two a b = .inr c) : nq S c := by
  unfold jc_two at h
  split at h
  · rw [← Sum.inr.inj h]; exact hb
  · split at h
    · rw [← Sum.inr.inj h]; exact ha
    · cases h
theorem jc_all_nq {S : MS} {C : Nat → Int32} : ∀ (ks : List Nat) (a c : Int32), nq S a → (∀ k ∈ ks, nq S (C k)) → jc_all C a ks = .inr c → nq S c
  | [], a, c, h, _, he => by rw [← Sum.inr.inj he]; exact h
  | k :: ks, a, c, h, hk, he => by
    rw [jc_all] at he
    split at he
    · cases he
    · rename_i d hd
      exact jc_all_nq ks d c (jc_two_nq h (hk k List.mem_cons_self) hd) (fun q hq => hk q (List.mem_cons_of_mem _ hq)) he
/-- the clocks of the variables of the node -/
def nq_v (S : MS) : Prop := ∀ v, pr_a S ≤ v → v < pr_v S → S.2 22 v = -1 ∨ ∃ w, w < 2 ^ 30 ∧ S.2 22 v = nI w ∧ pr_a S + w / 2 < v ∧ S.2 24 (pr_a S + w / 2) ≠ 0
theorem nq_v.q {S : MS} (h : nq_v S) {v : Nat} (h1 : pr_a S ≤ v) (h2 : v < pr_v S) : nq S (S.2 22 v) := by
  rcases h v h1 h2 with e | ⟨w, w1, w2, w3, w4⟩
  · exact Or.inr (Or.inl e)
  · exact Or.inr (Or.inr ⟨w, w1, w2, by omega, w4⟩)
theorem jc_nq {S : MS} {C : Nat → Int32} {e : Nat} {ks : List Nat} {t : Int32} (hv : nq_v S) (hb : pr_v S ≤ 6000) (hs : pw_s S (S.2 32 e) (S.2 33 e) ks.length) (hC : ∀ k ∈ ks, nq S (C k)) (h : jc S C e ks = .inr t) : nq S t := by
  unfold jc at h
  split at h
  · rename_i q2
    rw [← Sum.inr.inj h]
    rcases hs with ⟨q, -⟩ | ⟨q, -⟩ | ⟨q, -, v, v1, v2⟩ | ⟨q, -⟩ | ⟨q, m⟩ | ⟨q, r, m⟩ | ⟨q, r, m⟩ | ⟨q, m, -⟩
    · rw [q] at q2; exact absurd q2 (by decide)
    · rw [q] at q2; exact absurd q2 (by decide)
    · rw [v2, nI_clamp (by omega)]
      exact hv.q (by omega) v1
    · rw [q] at q2; exact absurd q2 (by decide)
    · rw [q] at q2; exact absurd q2 (by decide)
    · rw [q2] at q; exact absurd q (by decide)
    · rw [q2] at q; exact absurd q (by decide)
    · rw [q] at q2; exact absurd q2 (by decide)
  · split at h
    · rename_i q26
      split at h
      · cases h
      · rw [← Sum.inr.inj h]
        rcases hs with ⟨q, -⟩ | ⟨q, -⟩ | ⟨q, -⟩ | ⟨q, -⟩ | ⟨q, m⟩ | ⟨q, r, m⟩ | ⟨q, r, m⟩ | ⟨q, m, v, s, s1, v1, v2, v3⟩
        · rw [q] at q26; exact absurd q26 (by decide)
        · rw [q] at q26; exact absurd q26 (by decide)
        · rw [q] at q26; exact absurd q26 (by decide)
        · rw [q] at q26; exact absurd q26 (by decide)
        · rw [q] at q26; exact absurd q26 (by decide)
        · rw [q26] at r; exact absurd r (by decide)
        · rw [q26] at r; exact absurd r (by decide)
        · have e1 : (2 * v + s) / 2 = v := by omega
          exact Or.inr (Or.inr ⟨2 * v + s, by omega, v3, by rw [e1]; exact v1, by rw [e1]; exact v2⟩)
    · split at h
      · rename_i q25
        split at h
        · cases h
        · rename_i hneg
          rw [← Sum.inr.inj h]
          have hl : 0 < ks.length := by
            rcases hs with ⟨q, -⟩ | ⟨q, -⟩ | ⟨q, -⟩ | ⟨q, -⟩ | ⟨q, m⟩ | ⟨q, r, m⟩ | ⟨q, r, m⟩ | ⟨q, m, -⟩
            · rw [q] at q25; exact absurd q25 (by decide)
            · rw [q] at q25; exact absurd q25 (by decide)
            · rw [q] at q25; exact absurd q25 (by decide)
            · rw [q] at q25; exact absurd q25 (by decide)
            · omega
            · omega
            · omega
            · omega
          rcases hC _ (getD_mem hl) with u | u | ⟨w, w1, w2, w3, -⟩
          · rw [u] at hneg; exact absurd (by decide) hneg
          · rw [u] at hneg; exact absurd (by decide) hneg
          · rw [w2, nI_clamp (by omega)]
            exact hv.q (by omega) w3
      · exact jc_all_nq ks _ _ (Or.inl rfl) hC h
/-- S' is as S where a node looks at: its expressions below p', its equations q .. q' - 1, its left sides l .. l' - 1 -/
def nv (S S' : MS) (p' q q' l l' : Nat) : Prop :=
  (pr_N S' = pr_N S ∧ pr_a S' = pr_a S ∧ pr_v S' = pr_v S ∧ pr_i S' = pr_i S ∧ S'.2 0 = S.2 0) ∧
  (∀ x g, x = 12 ∨ x = 13 ∨ x = 14 → g < pr_N S → S'.2 x g = S.2 x g) ∧ (∀ x v, x = 22 ∨ x = 24 → v < pr_v S → S'.2 x v = S.2 x v) ∧
  (∀ x k, x = 25 ∨ x = 27 ∨ x = 29 → q ≤ k → k < q' → S'.2 x k = S.2 x k) ∧ (∀ k, q ≤ k → k ≤ q' → S'.2 26 k = S.2 26 k) ∧ (∀ j, l ≤ j → j < l' → S'.2 28 j = S.2 28 j) ∧ ∀ x e, 32 ≤ x → x ≤ 35 → e < p' → S'.2 x e = S.2 x e
theorem pw_s.nv {S S' : MS} {p' q q' l l' : Nat} (h : nv S S' p' q q' l l') {kind what : Int32} {m : Nat} (g : pw_s S kind what m) : pw_s S' kind what m := by
  obtain ⟨⟨h1, h2, h3, h4, h5⟩, h6, h7, -⟩ := h
  unfold pw_s
  rw [h1, h2, h3]
  rcases g with g | g | g | g | g | g | g | ⟨g, g2, v, s, g3, g4, g5, g6⟩
  · exact Or.inl g
  · exact Or.inr (Or.inl g)
  · exact Or.inr (Or.inr (Or.inl g))
  · exact Or.inr (Or.inr (Or.inr (Or.inl g)))
  · exact Or.inr (Or.inr (Or.inr (Or.inr (Or.inl g))))
  · exact Or.inr (Or.inr (Or.inr (Or.inr (Or.inr (Or.inl g)))))
  · exact Or.inr (Or.inr (Or.inr (Or.inr (Or.inr (Or.inr (Or.inl g))))))
  · exact Or.inr (Or.inr (Or.inr (Or.inr (Or.inr (Or.inr (Or.inr ⟨g, g2, v, s, g3, g4, by rw [h7 24 _ (Or.inr rfl) g4]; exact g5, g6⟩))))))
theorem pw.nv {S S' : MS} {p1 p2 p' q q' l l' : Nat} (h : nv S S' p' q q' l l') (hp : p2 ≤ p') (g : pw S p1 p2) : pw S' p1 p2 := by
  have h8 := h.2.2.2.2.2.2
  intro e e1 e2
  obtain ⟨g1, ks, g2, g3, g4⟩ := g e e1 e2
  have hlw : ∀ k, k ≤ e → lw (S'.2 34) k = lw (S.2 34) k := fun k hk => lw_cg e k hk (fun j hj => h8 34 j (by omega) (by omega) (by omega))
  refine ⟨by rw [hlw e (Nat.le_refl _)]; exact g1, ks, ?_, ?_, ?_⟩
  · rw [h8 34 e (by omega) (by omega) (by omega)]
    exact md_ch_cg ks _ (fun k hk => (h8 35 k (by omega) (by omega) (by have := ((pw_k_mem ks _ g3).2 k hk).2; omega)).symm) g2
  · rw [hlw e (Nat.le_refl _)]
    exact pw_k_cg ks _ (fun k hk => (hlw k (by omega)).symm) g3
  · rw [h8 32 e (by omega) (by omega) (by omega), h8 33 e (by omega) (by omega) (by omega)]
    exact g4.nv h
theorem kls_nv {S S' : MS} {p1 p2 p' q q' l l' e : Nat} (h : nv S S' p' q q' l l') (hp : p2 ≤ p') (hp2 : p2 < 2 ^ 31) (g : pw S p1 p2) (e1 : p1 ≤ e) (e2 : e < p2) : kls S' e = kls S e := by
  have h8 := h.2.2.2.2.2.2
  obtain ⟨g2, g3, g4⟩ := (g e e1 e2).2.kl (by omega)
  have hm := (pw_k_mem _ _ g3).2
  have hl := pw_k_len _ _ g3
  refine chf_eq _ _ e ?_ (by omega) (fun k hk => by have := (hm k hk).2; omega)
  rw [h8 34 e (by omega) (by omega) (by omega)]
  exact md_ch_cg _ _ (fun k hk => (h8 35 k (by omega) (by omega) (by have := (hm k hk).2; omega)).symm) g2
theorem pe_W.nv {T : Nat → Int32} {n k c p1 p2 l1 l2 : Nat} {S S' : MS} {p' q q' l l' : Nat} (h : nv S S' p' q q' l l') (hW : pe_W T n S k c p1 p2 l1 l2) (hp : p2 ≤ p') (hk1 : q ≤ k) (hk2 : k < q') (hl1 : l ≤ l1) (hl2 : l2 ≤ l') : pe_W T n S' k c p1 p2 l1 l2 := by
  obtain ⟨w1, w2, w3, w4, w5, w6, w7, w8, w9, w10, w11, w12, w13⟩ := hW
  obtain ⟨⟨h1, h2, h3, h4, h5⟩, -, -, h6, h7, h28, h8⟩ := id h
  refine ⟨by rw [h6 25 k (by omega) hk1 hk2]; exact w1, w2, by rw [h6 29 k (by omega) hk1 hk2]; exact w3, by rw [h6 27 k (by omega) hk1 hk2]; exact w4, w5, by rw [h7 k hk1 (by omega)]; exact w6, by rw [h7 (k + 1) (by omega) (by omega)]; exact w7, w8, ?_, w10.nv h hp, fun j j1 j2 => ?_, ?_, w13⟩
  · rw [← w9]
    exact lw_cg (p2 - 1) (p2 - 1) (Nat.le_refl _) (fun j hj => h8 34 j (by omega) (by omega) (by omega))
  · rw [h28 j (by omega) (by omega), h4, h2, h3]
    exact w11 j j1 j2
  · intro u
    rw [h8 32 (p2 - 1) (by omega) (by omega) (by omega)]
    exact w12 u
theorem jt_all_cg2 {A g g' : Nat → Int32} : ∀ (ks : List Nat) (i : Nat), (∀ j, i ≤ j → j < i + ks.length → g' j = g j) → jt_all A g' i ks = jt_all A g i ks
  | [], _, _ => rfl
  | k :: ks, i, h => by
    rw [jt_all, jt_all, h i (Nat.le_refl _) (by rw [List.length_cons]; omega), jt_all_cg2 ks (i + 1) (fun j h1 h2 => h j (by omega) (by rw [List.length_cons]; omega))]
/-- the nodes before this one -/
def nn_g (S : MS) : Prop := ∀ f, f < pr_N S → ∃ b i o, S.2 12 f = nI b ∧ S.2 13 f = nI i ∧ S.2 14 f = nI o ∧ 1 ≤ o ∧ b + i + o ≤ pr_v S
theorem jt_nv {S S' : MS} {p' q q' l l' e outs : Nat} {A : Nat → Int32} {ks : List Nat} (h : nv S S' p' q q' l l') (he : e < p') (hv : pr_v S ≤ 6000) (hN : pr_N S < 60) (hnn : nn_g S) (hs : pw_s S (S.2 32 e) (S.2 33 e) ks.length) : jt S' A e ks outs = jt S A e ks outs := by
  obtain ⟨⟨h1, h2, h3, h4, h5⟩, h12, h24, -, -, -, h8⟩ := h
  unfold jt
  rw [h8 32 e (by omega) (by omega) he, h8 33 e (by omega) (by omega) he]
  by_cases q3 : S.2 32 e = 3
  · rw [if_pos q3, if_pos q3]
    rcases hs with ⟨q, -⟩ | ⟨q, -⟩ | ⟨q, -⟩ | ⟨q, -, g, g1, g2⟩ | ⟨q, m⟩ | ⟨q, r, m⟩ | ⟨q, r, m⟩ | ⟨q, m, -⟩
    · rw [q] at q3; exact absurd q3 (by decide)
    · rw [q] at q3; exact absurd q3 (by decide)
    · rw [q] at q3; exact absurd q3 (by decide)
    · rw [g2, nI_clamp (by omega)]
      rw [h12 12 g (by omega) g1, h12 13 g (by omega) g1, h12 14 g (by omega) g1]
      obtain ⟨b, i, o, b1, b2, b3, b4, b5⟩ := hnn g g1
      rw [b1, b2, b3, nI_clamp (n := b) (by omega), nI_clamp (n := i) (by omega)]
      by_cases u : ks.length = i ∧ outs = (nI o).toNatClampNeg
      · rw [if_pos u, if_pos u, h24 24 _ (by omega) (by omega), jt_all_cg2 ks b (fun j j1 j2 => h24 24 j (by omega) (by omega))]
      · rw [if_neg u, if_neg u]
    · rw [q] at q3; exact absurd q3 (by decide)
    · rw [q3] at q; exact absurd q (by decide)
    · rw [q3] at q; exact absurd q (by decide)
    · rw [q] at q3; exact absurd q3 (by decide)
  rw [if_neg q3, if_neg q3]
  by_cases q2 : S.2 32 e = 2
  · rcases hs with ⟨q, -⟩ | ⟨q, -⟩ | ⟨q, -, v, v1, v2⟩ | ⟨q, -⟩ | ⟨q, m⟩ | ⟨q, r, m⟩ | ⟨q, r, m⟩ | ⟨q, m, -⟩
    · rw [q] at q2; exact absurd q2 (by decide)
    · rw [q] at q2; exact absurd q2 (by decide)
    · rw [v2, nI_clamp (by omega), h2, h24 24 _ (by omega) v1]
    · rw [q] at q2; exact absurd q2 (by decide)
    · rw [q] at q2; exact absurd q2 (by decide)
    · rw [q2] at q; exact absurd q (by decide)
    · rw [q2] at q; exact absurd q (by decide)
    · rw [q] at q2; exact absurd q2 (by decide)
  rw [if_neg q2, if_neg q2]
theorem jc_nv {S S' : MS} {p' q q' l l' e : Nat} {C : Nat → Int32} {ks : List Nat} (h : nv S S' p' q q' l l') (he : e < p') (hv : pr_v S ≤ 6000) (hs : pw_s S (S.2 32 e) (S.2 33 e) ks.length) (hC : ∀ k ∈ ks, nq S (C k)) : jc S' C e ks = jc S C e ks := by
  obtain ⟨⟨h1, h2, h3, h4, h5⟩, h12, h24, -, -, -, h8⟩ := h
  unfold jc jc_v
  rw [h8 32 e (by omega) (by omega) he, h8 33 e (by omega) (by omega) he]
  by_cases q2 : S.2 32 e = 2
  · rw [if_pos q2, if_pos q2]
    rcases hs with ⟨q, -⟩ | ⟨q, -⟩ | ⟨q, -, v, v1, v2⟩ | ⟨q, -⟩ | ⟨q, m⟩ | ⟨q, r, m⟩ | ⟨q, r, m⟩ | ⟨q, m, -⟩
    · rw [q] at q2; exact absurd q2 (by decide)
    · rw [q] at q2; exact absurd q2 (by decide)
    · rw [v2, nI_clamp (by omega), h2, h24 22 _ (by omega) v1]
    · rw [q] at q2; exact absurd q2 (by decide)
    · rw [q] at q2; exact absurd q2 (by decide)
    · rw [q2] at q; exact absurd q (by decide)
    · rw [q2] at q; exact absurd q (by decide)
    · rw [q] at q2; exact absurd q2 (by decide)
  rw [if_neg q2, if_neg q2]
  by_cases q26 : S.2 32 e = 26
  · rw [if_pos q26, if_pos q26]
    rcases hs with ⟨q, -⟩ | ⟨q, -⟩ | ⟨q, -⟩ | ⟨q, -⟩ | ⟨q, m⟩ | ⟨q, r, m⟩ | ⟨q, r, m⟩ | ⟨q, m, v, s, s1, v1, v2, v3⟩
    · rw [q] at q26; exact absurd q26 (by decide)
    · rw [q] at q26; exact absurd q26 (by decide)
    · rw [q] at q26; exact absurd q26 (by decide)
    · rw [q] at q26; exact absurd q26 (by decide)
    · rw [q] at q26; exact absurd q26 (by decide)
    · rw [q26] at r; exact absurd r (by decide)
    · rw [q26] at r; exact absurd r (by decide)
    · rw [v3, nI_clamp (by omega), show (2 * v + s) / 2 = v by omega, h2, h24 22 _ (by omega) v1]
  rw [if_neg q26, if_neg q26]
  by_cases q25 : S.2 32 e = 25
  · rw [if_pos q25, if_pos q25]
    have hl : 0 < ks.length := by
      rcases hs with ⟨q, -⟩ | ⟨q, -⟩ | ⟨q, -⟩ | ⟨q, -⟩ | ⟨q, m⟩ | ⟨q, r, m⟩ | ⟨q, r, m⟩ | ⟨q, m, -⟩
      · rw [q] at q25; exact absurd q25 (by decide)
      · rw [q] at q25; exact absurd q25 (by decide)
      · rw [q] at q25; exact absurd q25 (by decide)
      · rw [q] at q25; exact absurd q25 (by decide)
      · omega
      · omega
      · omega
      · omega
    by_cases hneg : C (ks.getD 0 0) < 0
    · rw [if_pos hneg, if_pos hneg]
    · rw [if_neg hneg, if_neg hneg]
      rcases hC _ (getD_mem hl) with u | u | ⟨w, w1, w2, w3, -⟩
      · rw [u] at hneg; exact absurd (by decide) hneg
      · rw [u] at hneg; exact absurd (by decide) hneg
      · rw [w2, nI_clamp (by omega), h2, h24 22 _ (by omega) w3]
  rw [if_neg q25, if_neg q25]
theorem nq.nv {S S' : MS} {p' q q' l l' : Nat} (h : nv S S' p' q q' l l') {c : Int32} (g : nq S c) : nq S' c := by
  obtain ⟨⟨h1, h2, h3, h4, h5⟩, h12, h24, -⟩ := h
  unfold nq
  rw [h2, h3]
  rcases g with g | g | ⟨w, w1, w2, w3, w4⟩
  · exact Or.inl g
  · exact Or.inr (Or.inl g)
  · exact Or.inr (Or.inr ⟨w, w1, w2, w3, by rw [h24 24 _ (by omega) w3]; exact w4⟩)
theorem jg_lt_nv {S S' : MS} {g g' : Nat → Int32} {l1 : Nat} : ∀ m i, (∀ j, i ≤ j → j < i + m → S'.2 24 (pr_a S' + jg_v S' (l1 + j)) = S.2 24 (pr_a S + jg_v S (l1 + j)) ∧ g' j = g j) → jg_lt S' g' l1 m i = jg_lt S g l1 m i := by
  intro m
  induction m with
  | zero => intro i _; rfl
  | succ m ih =>
    intro i h
    obtain ⟨a1, a2⟩ := h i (Nat.le_refl _) (by omega)
    rw [jg_lt, jg_lt, a1, a2, ih (i + 1) (fun j h1 h2 => h j (by omega) (by omega))]
theorem jg_lc_nv {S S' : MS} {l1 : Nat} : ∀ m i c, (∀ j, i ≤ j → j < i + m → jc_v S' (jg_v S' (l1 + j)) = jc_v S (jg_v S (l1 + j))) → jg_lc S' l1 m i c = jg_lc S l1 m i c := by
  intro m
  induction m with
  | zero => intro i c _; rfl
  | succ m ih =>
    intro i c h
    rw [jg_lc, jg_lc, h i (Nat.le_refl _) (by omega)]
    split
    · rfl
    · exact ih (i + 1) _ (fun j h1 h2 => h j (by omega) (by omega))
/-- an equation's judgement in a later state -/
theorem nf_J.nv {T : Nat → Int32} {n k c p1 p2 l1 l2 : Nat} {S S' : MS} {A C A' C' : Nat → Int32} {p' q q' l l' : Nat} (h : nv S S' p' q q' l l') (hW : pe_W T n S k c p1 p2 l1 l2) (hp : p2 ≤ p') (hp2 : p' < 2 ^ 31) (hn : n < 2 ^ 31) (hT : S.2 0 = T) (hk1 : q ≤ k) (hk2 : k < q') (hl1 : l ≤ l1) (hl2 : l2 ≤ l')
    (hv : pr_v S ≤ 6000) (hN : pr_N S < 60) (hnn : nn_g S) (hC : ∀ e, p1 ≤ e → e < p2 → nq S (C e)) (hA : ∀ e, p1 ≤ e → e < p2 → A' e = A e ∧ C' e = C e) (hJ : nf_J S A C k p1 p2 l1 l2) : nf_J S' A' C' k p1 p2 l1 l2 := by
  obtain ⟨w1, w2, w3, w4, w5, w6, w7, w8, w9, w10, w11, w12, w13⟩ := hW
  obtain ⟨⟨h1, h2, h3, h4, h5⟩, h12, h24, h6, h7, h28, h8⟩ := id h
  obtain ⟨j1, j2, cc, j3⟩ := hJ
  have hk3 : S.2 0 (jg_n (S.2 25 k)) = 40 → S.2 32 (p2 - 1) = 3 := fun u => w12 ((lx_kind_40 w2).2 (by
    rw [w1, jg_n, nI_clamp (by omega), hT] at u
    exact u))
  have e0 : S'.2 0 (jg_n (S'.2 25 k)) = S.2 0 (jg_n (S.2 25 k)) := by rw [h5, h6 25 k (by omega) hk1 hk2]
  have ejv : ∀ j, l1 ≤ j → j < l2 → jg_v S' j = jg_v S j ∧ pr_a S + jg_v S j < pr_v S := fun j a b => by
    obtain ⟨x, x1, x2, x3⟩ := w11 j a b
    unfold jg_v
    rw [h28 j (by omega) (by omega), x1, nI_clamp (by omega)]
    exact ⟨rfl, x3⟩
  refine ⟨fun e e1 e2 => ?_, ?_, cc, ?_⟩
  · rw [e0]
    obtain ⟨t1, t2⟩ := j1 e e1 e2
    obtain ⟨k1, k2⟩ := (w10 e e1 e2).2.kids (by omega)
    have k3 : ∀ x ∈ kls S e, p1 ≤ x := fun x hx => by
      have g3 := ((w10 e e1 e2).2.kl (by omega)).2.1
      have := ((pw_k_mem _ _ g3).2 x hx).1
      have := (w10 e e1 e2).1
      omega
    have hAx : ∀ x ∈ kls S e, A' x = A x ∧ C' x = C x := fun x hx => hA x (k3 x hx) (by have := k2 x hx; omega)
    rw [kls_nv h hp (by omega) w10 e1 e2, jt_nv h (by omega) hv hN hnn k1, jc_nv h (by omega) hv k1 (fun x hx => by rw [(hAx x hx).2]; exact hC x (k3 x hx) (by have := k2 x hx; omega))]
    rw [(hA e e1 e2).1, (hA e e1 e2).2]
    rw [jt_cg k1 (fun x hx => (hAx x hx).1), jc_cg k1 (fun x hx => (hAx x hx).2)]
    exact ⟨t1, t2⟩
  · rw [← j2, e0]
    refine jg_lt_nv _ _ (fun j a b => ⟨?_, ?_⟩)
    · obtain ⟨b1, b2⟩ := ejv (l1 + j) (by omega) (by omega)
      rw [b1, h2, h24 24 _ (by omega) b2]
    · unfold jg_g
      by_cases u : decide (S.2 0 (jg_n (S.2 25 k)) = 40) = true
      · rw [if_pos u, if_pos u]
        obtain ⟨t1, t2⟩ := j1 (p2 - 1) (by omega) (by omega)
        obtain ⟨k1, k2⟩ := (w10 (p2 - 1) (by omega) (by omega)).2.kids (by omega)
        have u' := of_decide_eq_true u
        rw [h8 33 (p2 - 1) (by omega) (by omega) (by omega)]
        have q3 := hk3 u'
        rcases k1 with ⟨q, -⟩ | ⟨q, -⟩ | ⟨q, -⟩ | ⟨q, -, g, g1, g2⟩ | ⟨q, m⟩ | ⟨q, r, m⟩ | ⟨q, r, m⟩ | ⟨q, m, -⟩
        · rw [q] at q3; exact absurd q3 (by decide)
        · rw [q] at q3; exact absurd q3 (by decide)
        · rw [q] at q3; exact absurd q3 (by decide)
        · obtain ⟨b, i, o, b1, b2, b3, b4, b5⟩ := hnn g g1
          have cg : jg_n (nI g) = g := nI_clamp (by omega)
          have cb : jg_n (nI b) = b := nI_clamp (by omega)
          have ci : jg_n (nI i) = i := nI_clamp (by omega)
          rw [g2, cg, h12 12 g (by omega) g1, h12 13 g (by omega) g1]
          unfold jt at t1
          rw [if_pos q3, if_pos rfl, if_pos u', g2, nI_clamp (n := g) (by omega), b3] at t1
          split at t1
          · rename_i hlen
            rw [nI_clamp (n := o) (by omega)] at hlen
            rw [b1, b2, cb, ci]
            exact h24 24 _ (by omega) (by omega)
          · cases t1
        · rw [q] at q3; exact absurd q3 (by decide)
        · rw [q3] at q; exact absurd q (by decide)
        · rw [q3] at q; exact absurd q (by decide)
        · rw [q] at q3; exact absurd q3 (by decide)
      · rw [if_neg u, if_neg u]
        exact (hA (p2 - 1) (by omega) (by omega)).1
  · rw [← j3, (hA (p2 - 1) (by omega) (by omega)).2]
    refine jg_lc_nv _ _ _ (fun j a b => ?_)
    obtain ⟨b1, b2⟩ := ejv (l1 + j) (by omega) (by omega)
    unfold jc_v
    rw [b1, h2, h24 22 _ (by omega) b2]
theorem nf_J.cg {T : Nat → Int32} {n k c p1 p2 l1 l2 : Nat} {S : MS} {A C A' C' : Nat → Int32} (hW : pe_W T n S k c p1 p2 l1 l2) (hp2 : p2 < 2 ^ 31) (hA : ∀ e, p1 ≤ e → e < p2 → A' e = A e ∧ C' e = C e) (hJ : nf_J S A C k p1 p2 l1 l2) : nf_J S A' C' k p1 p2 l1 l2 := by
  obtain ⟨w1, w2, w3, w4, w5, w6, w7, w8, w9, w10, w11, w12, w13⟩ := hW
  obtain ⟨j1, j2, cc, j3⟩ := hJ
  refine ⟨fun e e1 e2 => ?_, ?_, cc, ?_⟩
  · obtain ⟨t1, t2⟩ := j1 e e1 e2
    obtain ⟨k1, k2⟩ := (w10 e e1 e2).2.kids (by omega)
    have k3 : ∀ x ∈ kls S e, p1 ≤ x := fun x hx => by
      have g3 := ((w10 e e1 e2).2.kl (by omega)).2.1
      have := ((pw_k_mem _ _ g3).2 x hx).1
      have := (w10 e e1 e2).1
      omega
    have hAx : ∀ x ∈ kls S e, A' x = A x ∧ C' x = C x := fun x hx => hA x (k3 x hx) (by have := k2 x hx; omega)
    rw [(hA e e1 e2).1, (hA e e1 e2).2, jt_cg k1 (fun x hx => (hAx x hx).1), jc_cg k1 (fun x hx => (hAx x hx).2)]
    exact ⟨t1, t2⟩
  · rw [← j2]
    refine jg_lt_nv _ _ (fun j a b => ⟨rfl, ?_⟩)
    unfold jg_g
    rw [(hA (p2 - 1) (by omega) (by omega)).1]
  · rw [(hA (p2 - 1) (by omega) (by omega)).2]
    exact j3
theorem nf_J_st {S : MS} {k : Nat} {A C A' C' : Nat → Int32} {x p1 p2 l1 l2 : Nat} (h : nf_J (jg_st S k A C) A' C' x p1 p2 l1 l2) : nf_J S A' C' x p1 p2 l1 l2 := by
  obtain ⟨j1, j2, cc, j3⟩ := h
  refine ⟨j1, ?_, cc, ?_⟩
  · rw [← j2]
    exact (jg_lt_nv (S := S) (S' := jg_st S k A C) (g := jg_g S A' (decide (S.2 0 (jg_n (S.2 25 x)) = 40)) (p2 - 1)) (g' := jg_g (jg_st S k A C) A' (decide ((jg_st S k A C).2 0 (jg_n ((jg_st S k A C).2 25 x)) = 40)) (p2 - 1)) _ _ (fun j _ _ => ⟨rfl, rfl⟩)).symm
  · rw [← j3]
    exact (jg_lc_nv (S := S) (S' := jg_st S k A C) _ _ _ (fun j _ _ => rfl)).symm
/-- a node's equations judged one after the other -/
theorem nd_jg_J {T : Nat → Int32} {n : Nat} {P L : Nat → Nat} : ∀ m k S S', nd_jg m k S = .inr S' → (∀ x, k ≤ x → x ≤ k + m → P x < 2 ^ 31 ∧ L x < 2 ^ 31) → (∀ x, k ≤ x → x < k + m → ∃ c, pe_W T n S x c (P x) (P (x + 1)) (L x) (L (x + 1))) →
    (∀ j, j < P k ∨ P (k + m) ≤ j → S'.2 41 j = S.2 41 j ∧ S'.2 36 j = S.2 36 j) ∧ ∀ x, k ≤ x → x < k + m → nf_J S (S'.2 41) (S'.2 36) x (P x) (P (x + 1)) (L x) (L (x + 1)) := by
  intro m
  induction m with
  | zero =>
    intro k S S' h hb hW
    have h' := Sum.inr.inj h
    subst h'
    exact ⟨fun _ _ => ⟨rfl, rfl⟩, fun x a b => by omega⟩
  | succ m ih =>
    intro k S S' h hb hW
    rw [nd_jg] at h
    split at h
    · cases h
    rename_i S1 h1
    obtain ⟨c, hWk⟩ := hW k (Nat.le_refl _) (by omega)
    obtain ⟨A, C, e1, hJ, hout⟩ := jg_J hWk (hb _ (by omega) (by omega)).1 (hb _ (by omega) (by omega)).2 h1
    have hlt := hWk.2.2.2.2.1
    have mono : ∀ i, i ≤ m → P (k + 1) ≤ P (k + 1 + i) := by
      intro i
      induction i with
      | zero => intro _; exact Nat.le_refl _
      | succ i im =>
        intro hi
        obtain ⟨c9, w9⟩ := hW (k + 1 + i) (by omega) (by omega)
        have := w9.2.2.2.2.1
        have := im (by omega)
        rw [show k + 1 + (i + 1) = k + 1 + i + 1 by omega]
        omega
    have hm := mono m (Nat.le_refl _)
    have e41 : S1.2 41 = A := by
      rw [e1]
      funext j
      unfold jg_st
      rw [ml_saA_a, if_neg (by omega), ml_saA_a, if_pos rfl]
    have e36 : S1.2 36 = C := by
      rw [e1]
      funext j
      unfold jg_st
      rw [ml_saA_a, if_pos rfl]
    obtain ⟨g1, g2⟩ := ih (k + 1) S1 S' h (fun x a b => hb x (by omega) (by omega)) (fun x a b => by
      obtain ⟨c9, w9⟩ := hW x (by omega) (by omega)
      rw [e1]
      exact ⟨c9, w9⟩)
    rw [show k + 1 + m = k + (m + 1) by omega] at g1 g2 hm
    refine ⟨fun j hj => ?_, fun x a b => ?_⟩
    · obtain ⟨r1, r2⟩ := g1 j (by omega)
      obtain ⟨r3, r4⟩ := hout j (by omega)
      rw [r1, r2, e41, e36]
      exact ⟨r3, r4⟩
    · rcases Nat.lt_or_ge k x with q | q
      · have := g2 x q (by omega)
        rw [e1] at this
        exact nf_J_st this
      · have ex : x = k := by omega
        subst ex
        refine hJ.cg hWk (hb _ (by omega) (by omega)).1 (fun e r1 r2 => ?_)
        obtain ⟨r3, r4⟩ := g1 e (Or.inl r2)
        rw [r3, r4, e41, e36]
        exact ⟨rfl, rfl⟩
