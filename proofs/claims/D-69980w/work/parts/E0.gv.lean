/-! what the counts of definitions say -/
set_option maxRecDepth 100000
theorem gc_uq {B : Nat → Int32} {a v l : Nat} : ∀ m, (∀ j j', l ≤ j → j < l + m → l ≤ j' → j' < l + m → B j = nI (v - a) → B j' = nI (v - a) → j = j') → gc B a v l m ≤ 1 := by
  intro m
  induction m with
  | zero => intro _; exact Nat.zero_le _
  | succ m ih =>
    intro h
    have h1 := ih (fun j j' w1 w2 w3 w4 => h j j' w1 (by omega) w3 (by omega))
    rw [gc]
    by_cases q : a ≤ v ∧ B (l + m) = nI (v - a)
    · rw [if_pos q]
      have h0 : ¬ 0 < gc B a v l m := fun u => by
        obtain ⟨j, w1, w2, w3, w4⟩ := gc_ex m u
        have := h j (l + m) w1 (by omega) (by omega) (by omega) w4 q.2
        omega
      omega
    · rw [if_neg q]; exact h1
section
variable {S : MS} {l0 l1 : Nat}
theorem nd_gv_of : ∀ m v, (∀ x, v ≤ x → x < v + m → S.2 23 x = 1) → nd_gv S m v = true := by
  intro m
  induction m with
  | zero => intro v _; rfl
  | succ m ih =>
    intro v h
    show (decide (S.2 23 v = 1) && nd_gv S m (v + 1)) = true
    rw [ih (v + 1) (fun x w1 w2 => h x (by omega) (by omega)), decide_eq_true (h v (Nat.le_refl _) (by omega))]
    rfl
theorem jg_v28 (hpl : pl_ok S l0 l1) (hv : pr_v S ≤ 6000) {j : Nat} (h1 : l0 ≤ j) (h2 : j < l1) : S.2 28 j = nI (jg_v S j) ∧ pr_i S ≤ jg_v S j ∧ pr_a S + jg_v S j < pr_v S := by
  obtain ⟨x, x1, x2, x3⟩ := hpl j h1 h2
  have e : jg_v S j = x := by unfold jg_v; rw [x1, nI_clamp (by omega)]
  rw [e]
  exact ⟨x1, x2, x3⟩
theorem gv_dup (hpl : pl_ok S l0 l1) (hv : pr_v S ≤ 6000) (hl : l0 ≤ l1) (hl5 : l1 ≤ 5000) (hc : ∀ v, pr_a S ≤ v → v < pr_v S → S.2 23 v = nI (gc (S.2 28) (pr_a S) v l0 (l1 - l0))) (hg : nd_gv S (pr_v S - (pr_a S + pr_i S)) (pr_a S + pr_i S) = true) : ¬ ∃ j j', l0 ≤ j ∧ j < j' ∧ j' < l1 ∧ jg_v S j = jg_v S j' := by
  rintro ⟨j, j', h1, h2, h3, h4⟩
  obtain ⟨a1, a2, a3⟩ := jg_v28 hpl hv h1 (by omega : j < l1)
  obtain ⟨b1, -, -⟩ := jg_v28 hpl hv (by omega : l0 ≤ j') h3
  have e1 := nd_gv_all _ _ hg (pr_a S + jg_v S j) (by omega) (by omega)
  rw [hc _ (by omega) a3] at e1
  have hle : gc (S.2 28) (pr_a S) (pr_a S + jg_v S j) l0 (l1 - l0) ≤ l1 - l0 := gc_le _
  have e2 := (nI_eq (b := 1) (by omega) (by decide)).1 e1
  have := gc_one (l1 - l0) e2 h1 (by omega) (by omega : l0 ≤ j') (by omega) (by omega) (by rw [a1, show pr_a S + jg_v S j - pr_a S = jg_v S j by omega]) (by rw [b1, ← h4, show pr_a S + jg_v S j - pr_a S = jg_v S j by omega])
  omega
theorem gv_mis (hpl : pl_ok S l0 l1) (hv : pr_v S ≤ 6000) (hl : l0 ≤ l1) (hl5 : l1 ≤ 5000) (hc : ∀ v, pr_a S ≤ v → v < pr_v S → S.2 23 v = nI (gc (S.2 28) (pr_a S) v l0 (l1 - l0))) (hg : nd_gv S (pr_v S - (pr_a S + pr_i S)) (pr_a S + pr_i S) = true) : ¬ ∃ v, pr_a S + pr_i S ≤ v ∧ v < pr_v S ∧ ∀ j, l0 ≤ j → j < l1 → pr_a S + jg_v S j ≠ v := by
  rintro ⟨v, h1, h2, h3⟩
  have e1 := nd_gv_all _ _ hg v h1 (by omega)
  rw [hc _ (by omega) h2] at e1
  have hle : gc (S.2 28) (pr_a S) v l0 (l1 - l0) ≤ l1 - l0 := gc_le _
  have e2 := (nI_eq (b := 1) (by omega) (by decide)).1 e1
  obtain ⟨j, w1, w2, w3, w4⟩ := gc_ex (l1 - l0) (by omega : 0 < gc (S.2 28) (pr_a S) v l0 (l1 - l0))
  obtain ⟨a1, a2, a3⟩ := jg_v28 hpl hv w1 (by omega : j < l1)
  rw [a1] at w4
  have := (nI_eq (by omega) (by omega)).1 w4
  exact h3 j w1 (by omega) (by omega)
theorem gv_ok (hpl : pl_ok S l0 l1) (hv : pr_v S ≤ 6000) (hl : l0 ≤ l1) (hl5 : l1 ≤ 5000) (hc : ∀ v, pr_a S ≤ v → v < pr_v S → S.2 23 v = nI (gc (S.2 28) (pr_a S) v l0 (l1 - l0))) (h1 : ¬ ∃ j j', l0 ≤ j ∧ j < j' ∧ j' < l1 ∧ jg_v S j = jg_v S j') (h2 : ∀ v, pr_a S + pr_i S ≤ v → v < pr_v S → ∃ j, l0 ≤ j ∧ j < l1 ∧ pr_a S + jg_v S j = v) : nd_gv S (pr_v S - (pr_a S + pr_i S)) (pr_a S + pr_i S) = true := by
  refine nd_gv_of _ _ (fun v w1 w2 => ?_)
  have hvv : v < pr_v S := by omega
  obtain ⟨j, z1, z2, z3⟩ := h2 v w1 hvv
  obtain ⟨a1, a2, a3⟩ := jg_v28 hpl hv z1 z2
  have hp : 0 < gc (S.2 28) (pr_a S) v l0 (l1 - l0) := gc_pos (l1 - l0) z1 (by omega) (by omega) (by rw [a1, ← z3, show pr_a S + jg_v S j - pr_a S = jg_v S j by omega])
  have hu : gc (S.2 28) (pr_a S) v l0 (l1 - l0) ≤ 1 := gc_uq _ (fun x x' y1 y2 y3 y4 y5 y6 => by
    obtain ⟨c1, c2, c3⟩ := jg_v28 hpl hv y1 (by omega : x < l1)
    obtain ⟨d1, d2, d3⟩ := jg_v28 hpl hv y3 (by omega : x' < l1)
    rw [c1] at y5
    rw [d1] at y6
    have e1 := (nI_eq (by omega) (by omega)).1 y5
    have e2 := (nI_eq (by omega) (by omega)).1 y6
    refine Decidable.byContradiction fun hn => h1 ?_
    rcases Nat.lt_or_ge x x' with u | u
    · exact ⟨x, x', y1, u, by omega, by omega⟩
    · exact ⟨x', x, y3, by omega, by omega, by omega⟩)
  rw [hc v (by omega) hvv, show gc (S.2 28) (pr_a S) v l0 (l1 - l0) = 1 by omega]
  rfl
end
