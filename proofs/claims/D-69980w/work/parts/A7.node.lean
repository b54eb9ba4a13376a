/-! what is known of each node that is read -/
set_option maxRecDepth 100000
/-- the state seen from the node f -/
def vw (S : MS) (f : Nat) : MS := ml_sf (ml_sf S 18 (nI f)) 19 (S.2 12 (f + 1))
theorem vw_N {S : MS} {f : Nat} (h : f < 2 ^ 31) : pr_N (vw S f) = f := nI_clamp h
theorem vw_a {S : MS} {f : Nat} (h : f < 2 ^ 31) : pr_a (vw S f) = jg_n (S.2 12 f) := by
  unfold pr_a
  rw [vw_N h]
  rfl
theorem vw_v {S : MS} {f : Nat} : pr_v (vw S f) = jg_n (S.2 12 (f + 1)) := rfl
theorem vw_i {S : MS} {f : Nat} (h : f < 2 ^ 31) : pr_i (vw S f) = jg_n (S.2 13 f) := by
  unfold pr_i
  rw [vw_N h]
  rfl
def nf_K (T : Nat → Int32) (n : Nat) (V : MS) (q q' p p' l l' : Nat) : Prop := ∃ P L : Nat → Nat, (P q = p ∧ P q' = p' ∧ L q = l ∧ L q' = l') ∧ (∀ k, q ≤ k → k < q' → p ≤ P k ∧ P (k + 1) ≤ p' ∧ l ≤ L k ∧ L (k + 1) ≤ l') ∧ ∀ k, q ≤ k → k < q' → ∃ c, pe_W T n V k c (P k) (P (k + 1)) (L k) (L (k + 1)) ∧ nf_J V (V.2 41) (V.2 36) k (P k) (P (k + 1)) (L k) (L (k + 1))
/-- a node f: its variables a .. a' - 1, i inputs, o outputs, equations q .. q' - 1, expressions p .. p' - 1, left sides l .. l' - 1 -/
def nf (T : Nat → Int32) (n : Nat) (S : MS) (f a a' i o q q' p p' l l' : Nat) : Prop :=
  (S.2 12 f = nI a ∧ S.2 12 (f + 1) = nI a' ∧ S.2 13 f = nI i ∧ S.2 14 f = nI o ∧ S.2 15 f = nI q ∧ S.2 15 (f + 1) = nI q') ∧
  (1 ≤ i ∧ 1 ≤ o ∧ a + i + o ≤ a' ∧ a' ≤ a + 99 ∧ q < q' ∧ a' ≤ 6000 ∧ f < 60 ∧ p' ≤ 5000 ∧ l' < 5000 ∧ q' ≤ 5000 ∧ n ≤ 5000 ∧ S.2 0 = T ∧ p ≤ p' ∧ l ≤ l') ∧
  nf_K T n (vw S f) q q' p p' l l' ∧
  (∀ e, p ≤ e → e < p' → nq (vw S f) (S.2 36 e) ∧ nx_E S p e ∧ S.2 38 e = nI (e + 1 - lw (S.2 34) e)) ∧
  (S.2 17 f = nI (nx_t nx_s (S.2 32) p (p' - p)) ∧ S.2 16 f = nI (nx_t nx_q (S.2 32) p (p' - p))) ∧
  nq_v (vw S f) ∧ (∀ v, a ≤ v → v < a' → (S.2 24 v = 0 ∨ S.2 24 v = 1) ∧ md_dep S a (v + 1) v ≤ 8 ∧ (a + i ≤ v → gc (S.2 28) a v l (l' - l) = 1)) ∧ nn_g (vw S f)
/-- nothing of what was read has changed -/
def nk (N v k l p : Nat) (S S' : MS) : Prop :=
  (∀ x j, x = 10 ∨ x = 11 ∨ x = 13 ∨ x = 14 ∨ x = 16 ∨ x = 17 → j < N → S'.2 x j = S.2 x j) ∧ (∀ x j, x = 12 ∨ x = 15 → j ≤ N → 0 < N → S'.2 x j = S.2 x j) ∧
  (∀ x j, x = 20 ∨ x = 21 ∨ x = 22 ∨ x = 24 → j < v → S'.2 x j = S.2 x j) ∧ (∀ x j, x = 25 ∨ x = 27 ∨ x = 29 → j < k → S'.2 x j = S.2 x j) ∧ (∀ j, j ≤ k → S'.2 26 j = S.2 26 j) ∧ (∀ j, j < l → S'.2 28 j = S.2 28 j) ∧
  (∀ x e, 32 ≤ x → x ≤ 39 ∨ x = 41 → e < p → S'.2 x e = S.2 x e) ∧ S'.2 0 = S.2 0
theorem nk.nv {N v k l p f a a' i q q' p' l0 l' : Nat} {S S' : MS} (h : nk N v k l p S S') (hf : f < N) (hN : N ≤ 60) (h12 : S.2 12 f = nI a) (h12' : S.2 12 (f + 1) = nI a') (h13 : S.2 13 f = nI i) (ha : a' ≤ v) (ha' : a' < 2 ^ 31) (hq : q' ≤ k) (hl : l' ≤ l) (hp : p' ≤ p) : nv (vw S f) (vw S' f) p' q q' l0 l' := by
  obtain ⟨k1, k2, k3, k4, k5, k6, k7, k8⟩ := h
  have hf31 : f < 2 ^ 31 := by omega
  have ev : pr_v (vw S f) = a' := by rw [vw_v, h12', jg_n, nI_clamp ha']
  refine ⟨⟨by rw [vw_N hf31, vw_N hf31], ?_, ?_, ?_, k8⟩, fun x g hx hg => ?_, fun x v hx hv => ?_, fun x k hx _ hk => k4 x k hx (by omega), fun k _ hk => k5 k (by omega), fun j _ hj => k6 j (by omega), fun x e hx hx2 he => k7 x e hx (by omega) (by omega)⟩
  · rw [vw_a hf31, vw_a hf31, k2 12 f (Or.inl rfl) (by omega) (by omega)]
  · rw [vw_v, vw_v, k2 12 (f + 1) (Or.inl rfl) (by omega) (by omega)]
  · rw [vw_i hf31, vw_i hf31, k1 13 f (by omega) hf]
  · rw [vw_N hf31] at hg
    rcases hx with rfl | rfl | rfl
    · exact k2 12 g (Or.inl rfl) (by omega) (by omega)
    · exact k1 13 g (by omega) (by omega)
    · exact k1 14 g (by omega) (by omega)
  · rw [ev] at hv
    exact k3 x v (by omega) (by omega)
theorem nf.keep {T : Nat → Int32} {n N v k l0 p0 f a a' i o q q' p p' l l' : Nat} {S S' : MS} (h : nk N v k l0 p0 S S') (hN : N ≤ 60) (hf : f < N) (ha : a' ≤ v) (hq : q' ≤ k) (hl : l' ≤ l0) (hp : p' ≤ p0) (g : nf T n S f a a' i o q q' p p' l l') : nf T n S' f a a' i o q q' p p' l l' := by
  obtain ⟨⟨a1, a2, a3, a4, a5, a6⟩, ⟨b1, b2, b3, b4, b5, b6, b7, b8, b9, b10, b11, b12, b13, b14⟩, ⟨P, L, ⟨c1, c2, c3, c4⟩, c5, c6⟩, d1, ⟨e1, e2⟩, f1, f2, f3⟩ := g
  have hv := h.nv (q := q) (l0 := l) hf hN a1 a2 a3 ha (by omega) hq hl hp
  obtain ⟨k1, k2, k3, k4, k5, k6, k7, k8⟩ := id h
  have hf31 : f < 2 ^ 31 := by omega
  have ev : pr_v (vw S f) = a' := by rw [vw_v, a2, jg_n, nI_clamp (by omega)]
  have ea : pr_a (vw S f) = a := by rw [vw_a hf31, a1, jg_n, nI_clamp (by omega)]
  have e32 : ∀ g : Int32 → Nat, ∀ m, m ≤ p' - p → nx_t g (S'.2 32) p m = nx_t g (S.2 32) p m := fun g m hm => nx_t_cg m (fun j x y => k7 32 j (by omega) (by omega) (by omega))
  refine ⟨⟨by rw [k2 12 f (by omega) (by omega) (by omega)]; exact a1, by rw [k2 12 (f + 1) (by omega) (by omega) (by omega)]; exact a2, by rw [k1 13 f (by omega) hf]; exact a3, by rw [k1 14 f (by omega) hf]; exact a4, by rw [k2 15 f (by omega) (by omega) (by omega)]; exact a5, by rw [k2 15 (f + 1) (by omega) (by omega) (by omega)]; exact a6⟩, ⟨b1, b2, b3, b4, b5, b6, b7, b8, b9, b10, b11, by rw [k8]; exact b12, b13, b14⟩, ⟨P, L, ⟨c1, c2, c3, c4⟩, c5, fun k r1 r2 => ?_⟩, fun e r1 r2 => ?_, ⟨?_, ?_⟩, ?_, fun v r1 r2 => ?_, ?_⟩
  · obtain ⟨c, hW, hJ⟩ := c6 k r1 r2
    obtain ⟨m1, m2, m3, m4⟩ := c5 k r1 r2
    refine ⟨c, hW.nv hv m2 r1 r2 m3 m4, hJ.nv hv hW m2 (by omega) (by omega) b12 r1 r2 m3 m4 (by omega) (by rw [vw_N hf31]; exact b7) f3 (fun e s1 s2 => (d1 e (by omega) (by omega)).1) (fun e s1 s2 => ⟨k7 41 e (by omega) (by omega) (by omega), k7 36 e (by omega) (by omega) (by omega)⟩)⟩
  · obtain ⟨d2, d3, d4⟩ := d1 e r1 r2
    refine ⟨?_, ?_, ?_⟩
    · rw [k7 36 e (by omega) (by omega) (by omega)]
      exact d2.nv hv
    · unfold nx_E
      rw [e32 _ (e - p) (by omega), e32 _ (e - p) (by omega), k7 32 e (by omega) (by omega) (by omega), k7 37 e (by omega) (by omega) (by omega)]
      exact d3
    · rw [k7 38 e (by omega) (by omega) (by omega), lw_cg e e (Nat.le_refl _) (fun j hj => k7 34 j (by omega) (by omega) (by omega))]
      exact d4
  · rw [k1 17 f (by omega) hf, e32 _ _ (Nat.le_refl _)]; exact e1
  · rw [k1 16 f (by omega) hf, e32 _ _ (Nat.le_refl _)]; exact e2
  · obtain ⟨⟨v1, v2, v3, v4, v5⟩, -, v7, -⟩ := hv
    intro v s1 s2
    rw [v2] at s1 ⊢
    rw [v3] at s2
    rw [v7 22 v (Or.inl rfl) s2]
    rcases f1 v s1 s2 with y | ⟨w, w1, w2, w3, w4⟩
    · exact Or.inl y
    · exact Or.inr ⟨w, w1, w2, w3, by rw [v7 24 _ (Or.inr rfl) (by omega)]; exact w4⟩
  · obtain ⟨g1, g2, g3⟩ := f2 v r1 r2
    refine ⟨by rw [k3 24 v (by omega) (by omega)]; exact g1, ?_, fun u => ?_⟩
    · have hck : md_ck S a a' := fun w s1 s2 => by
        have f1' := f1 w (by omega) (by omega)
        rw [ea] at f1'
        rcases f1' with y | ⟨w9, w1, w2, w3, w4⟩
        · exact Or.inl y
        · exact Or.inr ⟨w9, w1, w2, w3⟩
      rw [gx_dep hck (fun j s1 s2 => k3 22 j (by omega) (by omega)) (v + 1) v r1 r2]
      exact g2
    · rw [← g3 u]
      exact gc_cg _ (fun j s1 s2 => k6 j (by omega))
  · obtain ⟨⟨v1, v2, v3, v4, v5⟩, v6, -⟩ := hv
    intro g hg
    rw [v1] at hg
    rw [v6 12 g (by omega) hg, v6 13 g (by omega) hg, v6 14 g (by omega) hg, v3]
    exact f3 g hg
/-- all nodes -/
def nfs (T : Nat → Int32) (n : Nat) (S : MS) (A Q P L : Nat → Nat) : Prop := (A (pr_N S) = pr_v S ∧ Q (pr_N S) = pr_k S ∧ P (pr_N S) = pr_p S ∧ L (pr_N S) = pr_l S) ∧ (∀ f, f < pr_N S → ∃ i o, nf T n S f (A f) (A (f + 1)) i o (Q f) (Q (f + 1)) (P f) (P (f + 1)) (L f) (L (f + 1))) ∧ (0 < pr_N S → S.2 15 (pr_N S) = S.1 30) ∧ ∀ e, e < pr_p S → S.2 38 e = nI (e + 1 - lw (S.2 34) e)
theorem nd_gv_all {S : MS} : ∀ m v, nd_gv S m v = true → ∀ x, v ≤ x → x < v + m → S.2 23 x = 1 := by
  intro m
  induction m with
  | zero => intro v _ x a b; omega
  | succ m ih =>
    intro v h x a b
    rw [nd_gv, Bool.and_eq_true] at h
    obtain ⟨h1, h2⟩ := h
    have h1 := of_decide_eq_true h1
    rcases Nat.lt_or_ge v x with q | q
    · exact ih (v + 1) h2 x q (by omega)
    · have : x = v := by omega
      rw [this]
      exact h1
theorem gc_le {B : Nat → Int32} {a v l : Nat} : ∀ m, gc B a v l m ≤ m := by
  intro m
  induction m with
  | zero => exact Nat.le_refl _
  | succ m ih =>
    rw [gc]
    split <;> omega
