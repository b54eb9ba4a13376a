/-! equations: what they leave -/
set_option maxRecDepth 100000
/-- the state among a node's equations -/
def pn_E (n c : Nat) (S : MS) : Prop := pe_V n S ∧ c ≤ n ∧ n ≤ 5000 ∧ S.1 40 = nI (pr_p S) ∧ pr_p S ≤ c ∧ S.1 30 = nI (pr_k S) ∧ pr_k S ≤ c ∧ S.1 31 = nI (pr_l S) ∧ pr_l S ≤ c ∧ S.2 13 (pr_N S) = nI (pr_i S) ∧ pr_a S + pr_i S ≤ pr_v S
/-- nothing but equations has changed -/
def pq_same (S S' : MS) : Prop := (∀ k, k ≠ 30 → k ≠ 31 → k ≠ 40 → S'.1 k = S.1 k) ∧ ∀ k, k ≠ 16 → k ≠ 17 → k ≠ 23 → ¬ (25 ≤ k ∧ k ≤ 29) → ¬ (32 ≤ k ∧ k ≤ 39) → S'.2 k = S.2 k
theorem pq_same.rf {S : MS} : pq_same S S := ⟨fun _ _ _ _ => rfl, fun _ _ _ _ _ _ => rfl⟩
theorem pq_same.tr {S S1 S2 : MS} (h : pq_same S S1) (h2 : pq_same S1 S2) : pq_same S S2 := ⟨fun k a b c => (h2.1 k a b c).trans (h.1 k a b c), fun k a b c d e => (h2.2 k a b c d e).trans (h.2 k a b c d e)⟩
theorem pe_same.q {S S' : MS} (h : pe_same S S') : pq_same S S' := ⟨fun k _ _ c => h.1 k c, fun k a b _ _ e => h.2 k a b e⟩
theorem pq_same.px {S S' : MS} (h : pq_same S S') : md_px S S' := ⟨⟨fun k hk => h.1 k (by omega) (by omega) (by omega), by rw [h.2 12 (by omega) (by omega) (by omega) (by omega) (by omega)]⟩, fun k hk => h.2 k (by omega) (by omega) (by omega) (by omega) (by omega)⟩
theorem pq_same.N {S S' : MS} (h : pq_same S S') : pr_N S' = pr_N S := by rw [pr_N, pr_N, h.1 18 (by omega) (by omega) (by omega)]
theorem pq_same.a {S S' : MS} (h : pq_same S S') : pr_a S' = pr_a S := by rw [pr_a, pr_a, h.N, h.2 12 (by omega) (by omega) (by omega) (by omega) (by omega)]
theorem pq_same.v {S S' : MS} (h : pq_same S S') : pr_v S' = pr_v S := by rw [pr_v, pr_v, h.1 19 (by omega) (by omega) (by omega)]
theorem pq_same.i {S S' : MS} (h : pq_same S S') : pr_i S' = pr_i S := by rw [pr_i, pr_i, h.N, h.2 13 (by omega) (by omega) (by omega) (by omega) (by omega)]
theorem pq_same.T {S S' : MS} (h : pq_same S S') : S'.2 0 = S.2 0 := h.2 0 (by omega) (by omega) (by omega) (by omega) (by omega)
theorem pe_V.qsame {n : Nat} {S S' : MS} (h : pe_V n S) (e : pq_same S S') : pe_V n S' := by
  obtain ⟨hn, N, a, b, h1, h2, h3, h4, h5, h6, h7, h8, h9⟩ := h
  have q : ∀ k, k ≠ 16 → k ≠ 17 → k ≠ 23 → ¬ (25 ≤ k ∧ k ≤ 29) → ¬ (32 ≤ k ∧ k ≤ 39) → S'.2 k = S.2 k := e.2
  refine ⟨hn, N, a, b, by rw [e.1 18 (by omega) (by omega) (by omega)]; exact h1, h2, by rw [e.1 19 (by omega) (by omega) (by omega)]; exact h3, h4, by rw [q 12 (by omega) (by omega) (by omega) (by omega) (by omega)]; exact h5, h6, ?_, ?_, ?_⟩
  · intro i hi
    rw [q 20 (by omega) (by omega) (by omega) (by omega) (by omega), q 21 (by omega) (by omega) (by omega) (by omega) (by omega)]
    exact h7 i hi
  · intro i hi
    rw [q 10 (by omega) (by omega) (by omega) (by omega) (by omega), q 11 (by omega) (by omega) (by omega) (by omega) (by omega)]
    exact h8 i hi
  · intro v hv hv2
    rw [q 22 (by omega) (by omega) (by omega) (by omega) (by omega)]
    exact h9 v hv hv2
/-- what stood before the equation k, the left side l, the expression p stands -/
def pf_old (k l p : Nat) (S S' : MS) : Prop := (∀ q j, q = 25 ∨ q = 27 ∨ q = 29 → j < k → S'.2 q j = S.2 q j) ∧ (∀ j, j ≤ k → S'.2 26 j = S.2 26 j) ∧ (∀ j, j < l → S'.2 28 j = S.2 28 j) ∧ ∀ q j, 32 ≤ q → q ≤ 39 → j < p → S'.2 q j = S.2 q j
theorem pf_old.rf {k l p : Nat} {S : MS} : pf_old k l p S S := ⟨fun _ _ _ _ => rfl, fun _ _ => rfl, fun _ _ => rfl, fun _ _ _ _ _ => rfl⟩
theorem pf_old.tr {k l p k2 l2 p2 : Nat} {S S1 S2 : MS} (h : pf_old k l p S S1) (h2 : pf_old k2 l2 p2 S1 S2) (hk : k ≤ k2) (hl : l ≤ l2) (hp : p ≤ p2) : pf_old k l p S S2 :=
  ⟨fun q j a b => (h2.1 q j a (by omega)).trans (h.1 q j a b), fun j a => (h2.2.1 j (by omega)).trans (h.2.1 j a), fun j a => (h2.2.2.1 j (by omega)).trans (h.2.2.1 j a), fun q j a b c => (h2.2.2.2 q j a b (by omega)).trans (h.2.2.2 q j a b c)⟩
/-- how often the left sides from l on, m of them, name the variable v -/
def gc (B : Nat → Int32) (a v l : Nat) : Nat → Nat
  | 0 => 0
  | m + 1 => gc B a v l m + if a ≤ v ∧ B (l + m) = nI (v - a) then 1 else 0
theorem gc_cg {B B' : Nat → Int32} {a v l : Nat} : ∀ m, (∀ j, l ≤ j → j < l + m → B j = B' j) → gc B a v l m = gc B' a v l m := by
  intro m
  induction m with
  | zero => intro _; rfl
  | succ m ih =>
    intro h
    rw [gc, gc, ih (fun j a b => h j a (by omega)), h (l + m) (by omega) (by omega)]
theorem gc_add {B : Nat → Int32} {a v l : Nat} : ∀ m m2, gc B a v l (m + m2) = gc B a v l m + gc B a v (l + m) m2 := by
  intro m m2
  induction m2 with
  | zero => rfl
  | succ m2 ih =>
    show gc B a v l (m + m2) + (if a ≤ v ∧ B (l + (m + m2)) = nI (v - a) then 1 else 0) = gc B a v l m + (gc B a v (l + m) m2 + if a ≤ v ∧ B (l + m + m2) = nI (v - a) then 1 else 0)
    rw [ih, Nat.add_assoc l m m2]
    omega
/-- the left sides from the number l on up to l2 -/
def pl_ok (S : MS) (l l2 : Nat) : Prop := ∀ j, l ≤ j → j < l2 → ∃ x, S.2 28 j = nI x ∧ pr_i S ≤ x ∧ pr_a S + x < pr_v S
def pl_gv (S S' : MS) (l l2 : Nat) : Prop := ∀ v, v < 6000 → S'.2 23 v = S.2 23 v + nI (gc (S'.2 28) (pr_a S) v l (l2 - l))
def pl_S (S : MS) (x : Nat) : MS := ml_sa (ml_sa (ml_sf S 31 (nI (pr_l S + 1))) 23 (pr_a S + x) (S.2 23 (pr_a S + x) + 1)) 28 (pr_l S) (nI x)
theorem pl_S_same {S : MS} {x : Nat} : pq_same S (pl_S S x) := by
  refine ⟨fun k a b c => ?_, fun k a b c d e => ?_⟩
  · show (if k = 31 then _ else S.1 k) = S.1 k
    rw [if_neg b]
  · funext j
    show (ml_sa (ml_sa _ 23 _ _) 28 _ _).2 k j = _
    rw [ml_sa_a, if_neg (by omega), ml_sa_a, if_neg (by omega)]
    rfl
theorem pl_S_old {S : MS} {x k p : Nat} : pf_old k (pr_l S) p S (pl_S S x) := by
  refine ⟨fun q j a b => ?_, fun j a => ?_, fun j a => ?_, fun q j a b c => ?_⟩
  · show (ml_sa (ml_sa _ 23 _ _) 28 _ _).2 q j = _
    rw [ml_sa_a, if_neg (by omega), ml_sa_a, if_neg (by omega)]
    rfl
  · show (ml_sa (ml_sa _ 23 _ _) 28 _ _).2 26 j = _
    rw [ml_sa_a, if_neg (by omega), ml_sa_a, if_neg (by omega)]
    rfl
  · show (ml_sa (ml_sa _ 23 _ _) 28 _ _).2 28 j = _
    rw [ml_sa_a, if_pos rfl, if_neg (by omega), ml_sa_a, if_neg (by omega)]
    rfl
  · show (ml_sa (ml_sa _ 23 _ _) 28 _ _).2 q j = _
    rw [ml_sa_a, if_neg (by omega), ml_sa_a, if_neg (by omega)]
    rfl
theorem pl_S_28 {S : MS} {x : Nat} : (pl_S S x).2 28 (pr_l S) = nI x := by
  show (ml_sa (ml_sa _ 23 _ _) 28 _ _).2 28 _ = _
  rw [ml_sa_a, if_pos rfl, if_pos rfl]
theorem pl_S_23 {S : MS} {x v : Nat} : (pl_S S x).2 23 v = if v = pr_a S + x then S.2 23 v + 1 else S.2 23 v := by
  show (ml_sa (ml_sa _ 23 _ _) 28 _ _).2 23 v = _
  rw [ml_sa_a, if_neg (by omega), ml_sa_a, if_pos rfl]
  split
  · rename_i e; rw [e]
  · rfl
theorem pl_S_l {S : MS} {x : Nat} (h : pr_l S < 5000) : pr_l (pl_S S x) = pr_l S + 1 := by
  show (nI (pr_l S + 1)).toNatClampNeg = _
  exact nI_clamp (by omega)
theorem pl_S_E {S : MS} {n c c' x : Nat} (h : pn_E n c S) (hc : c + 1 ≤ c') (hn : c' ≤ n) : pn_E n c' (pl_S S x) := by
  obtain ⟨hV, h1, h2, h3, h4, h5, h6, h7, h8, h9, h10⟩ := h
  have e := pl_S_same (S := S) (x := x)
  have hk : pr_k (pl_S S x) = pr_k S := rfl
  have hl := pl_S_l (S := S) (x := x) (by omega)
  refine ⟨hV.qsame e, hn, h2, h3, by show pr_p S ≤ c'; omega, h5, by rw [hk]; omega, by rw [hl]; rfl, by rw [hl]; omega, ?_, by rw [e.a, e.i, e.v]; exact h10⟩
  rw [e.N, e.i, e.2 13 (by omega) (by omega) (by omega) (by omega) (by omega)]
  exact h9
theorem pg_left_ok {T : Nat → Int32} {n c : Nat} {S : MS} {q : Nat × Nat × MS} (h : pg_left T n c S = some (.inr q)) : lx_name T n c ∧ ∃ x, q = (x, lx_next T n c, ml_sa S 23 (pr_fv n S c) (S.2 23 (pr_fv n S c) + 1)) ∧ x = pr_fv n S c - pr_a S ∧ pr_fv n S c < pr_v S ∧ pr_a S + pr_i S ≤ pr_fv n S c := by
  unfold pg_left at h
  split at h
  · cases h
  rename_i g1
  split at h
  · rename_i g2
    exact ⟨Decidable.not_not.1 g1, _, (Sum.inr.inj (Option.some.inj h)).symm, rfl, g2.1, g2.2⟩
  · cases h
/-- a left side -/
theorem pe_left_ok {T : Nat → Int32} {n c e c' : Nat} {S S' : MS} (h : pe_left T n c S = some (.inr (e, c', S'))) : e = 0 ∧ lx_name T n c ∧ c' = lx_next T n c ∧ ∃ x, S' = pl_S S x ∧ pr_i S ≤ x ∧ pr_a S + x < pr_v S := by
  obtain ⟨x, c1, S1, h1, h2⟩ := pr_b_ok h
  obtain ⟨g1, x', g2, g3, g4, g5⟩ := pg_left_ok h1
  have ea : pr_a (ml_sf S 31 (nI (pr_l S + 1))) = pr_a S := rfl
  have ev : pr_v (ml_sf S 31 (nI (pr_l S + 1))) = pr_v S := rfl
  have ei : pr_i (ml_sf S 31 (nI (pr_l S + 1))) = pr_i S := rfl
  rw [ea, ei] at g5
  rw [ev] at g4
  rw [ea] at g3
  cases g2
  subst g3
  have h' := Sum.inr.inj (Option.some.inj h2)
  cases h'
  refine ⟨rfl, g1, rfl, pr_fv n (ml_sf S 31 (nI (pr_l S + 1))) c - pr_a S, ?_, by omega, by omega⟩
  unfold pl_S
  rw [show pr_a S + (pr_fv n (ml_sf S 31 (nI (pr_l S + 1))) c - pr_a S) = pr_fv n (ml_sf S 31 (nI (pr_l S + 1))) c by omega]
  rfl
/-- left sides have come, up to this state -/
def pl_R (n : Nat) (S : MS) (c c' : Nat) (S' : MS) : Prop := pn_E n c' S' ∧ c ≤ c' ∧ pq_same S S' ∧ pr_k S' = pr_k S ∧ pr_p S' = pr_p S ∧ pr_l S ≤ pr_l S' ∧ pf_old (pr_k S) (pr_l S) (pr_p S) S S' ∧ (∀ j, S'.2 25 j = S.2 25 j ∧ S'.2 29 j = S.2 29 j ∧ S'.2 26 j = S.2 26 j) ∧ pl_ok S' (pr_l S) (pr_l S') ∧ pl_gv S S' (pr_l S) (pr_l S')
theorem pl_R.tr {n c c1 c2 : Nat} {S S1 S2 : MS} (h : pl_R n S c c1 S1) (h2 : pl_R n S1 c1 c2 S2) : pl_R n S c c2 S2 := by
  obtain ⟨a1, a2, a3, a4, a5, a6, a7, a8, a9, a10⟩ := h
  obtain ⟨b1, b2, b3, b4, b5, b6, b7, b8, b9, b10⟩ := h2
  refine ⟨b1, by omega, a3.tr b3, by omega, by omega, by omega, a7.tr b7 (by omega) a6 (by omega), fun j => ⟨(b8 j).1.trans (a8 j).1, (b8 j).2.1.trans (a8 j).2.1, (b8 j).2.2.trans (a8 j).2.2⟩, fun j h1 h2 => ?_, fun v hv6 => ?_⟩
  · rcases Nat.lt_or_ge j (pr_l S1) with q | q
    · obtain ⟨x, g1, g2, g3⟩ := a9 j h1 q
      exact ⟨x, by rw [b7.2.2.1 j q]; exact g1, by rw [b3.i]; exact g2, by rw [b3.a, b3.v]; exact g3⟩
    · exact b9 j q h2
  · rw [b10 v hv6, a10 v hv6, a3.a]
    have e1 : gc (S1.2 28) (pr_a S) v (pr_l S) (pr_l S1 - pr_l S) = gc (S2.2 28) (pr_a S) v (pr_l S) (pr_l S1 - pr_l S) := gc_cg _ (fun j h1 h2 => (b7.2.2.1 j (by omega)).symm)
    have e2 := gc_add (B := S2.2 28) (a := pr_a S) (v := v) (l := pr_l S) (pr_l S1 - pr_l S) (pr_l S2 - pr_l S1)
    rw [show pr_l S1 - pr_l S + (pr_l S2 - pr_l S1) = pr_l S2 - pr_l S by omega, show pr_l S + (pr_l S1 - pr_l S) = pr_l S1 by omega] at e2
    rw [e1, e2, Int32.add_assoc, nI_add]
theorem pe_left_R {T : Nat → Int32} {n c e c' : Nat} {S S' : MS} (h : pe_left T n c S = some (.inr (e, c', S'))) (hE : pn_E n c S) : e = 0 ∧ c + 1 ≤ c' ∧ pr_l S' = pr_l S + 1 ∧ pl_R n S c c' S' := by
  obtain ⟨g1, g2, g3, x, g4, g5, g6⟩ := pe_left_ok h
  obtain ⟨t1, t2⟩ := lx_tkn g2
  subst g3 g4
  have hl : pr_l S < 5000 := by
    have h1 := hE.2.1
    have h2 := hE.2.2.1
    have h3 := hE.2.2.2.2.2.2.2.2.1
    omega
  have hl1 := pl_S_l (S := S) (x := x) hl
  have e := pl_S_same (S := S) (x := x)
  refine ⟨g1, t1, hl1, pl_S_E hE t1 t2, by omega, e, rfl, rfl, by omega, pl_S_old, fun j => ⟨?_, ?_, ?_⟩, fun j h1 h2 => ?_, fun v hv6 => ?_⟩
  · exact (pl_S_old (S := S) (x := x) (k := j + 1) (p := 0)).1 25 j (by omega) (by omega)
  · exact (pl_S_old (S := S) (x := x) (k := j + 1) (p := 0)).1 29 j (by omega) (by omega)
  · exact (pl_S_old (S := S) (x := x) (k := j) (p := 0)).2.1 j (Nat.le_refl j)
  · have ej : j = pr_l S := by omega
    subst ej
    exact ⟨x, pl_S_28, by rw [e.i]; exact g5, by rw [e.a, e.v]; exact g6⟩
  · rw [hl1, show pr_l S + 1 - pr_l S = 1 by omega, pl_S_23]
    show _ = S.2 23 v + nI (0 + if pr_a S ≤ v ∧ (pl_S S x).2 28 (pr_l S + 0) = nI (v - pr_a S) then 1 else 0)
    rw [Nat.add_zero, pl_S_28]
    have hv := hE.1.N.2.2.2.1
    by_cases q : v = pr_a S + x
    · rw [if_pos q, if_pos ⟨by omega, by rw [q]; congr 1; omega⟩]
      rfl
    · rw [if_neg q, if_neg]
      · show S.2 23 v = S.2 23 v + 0
        rw [Int32.add_zero]
      · rintro ⟨q1, q2⟩
        exact q (by have := (nI_eq (a := x) (b := v - pr_a S) (by omega) (by omega)).1 q2; omega)
theorem pe_lefts_R {T : Nat → Int32} {n : Nat} : ∀ f c S e c' S', pe_lefts T n f c S = some (.inr (e, c', S')) → pn_E n c S → e = 0 ∧ pl_R n S c c' S' := by
  intro f
  induction f with
  | zero => intro c S e c' S' h; cases h
  | succ f ih =>
    intro c S e c' S' h hE
    unfold pe_lefts at h
    split at h
    · rename_i g
      obtain ⟨t1, t2⟩ := lx_tk (T := T) (n := n) (c := c) (by rw [g]; decide)
      obtain ⟨e1, c1, S1, h1, h⟩ := pr_b_ok h
      have hE1 : pn_E n (lx_next T n c) S := by
        obtain ⟨hV, b1, b2, b3, b4, b5, b6, b7, b8, b9⟩ := hE
        exact ⟨hV, t2, b2, b3, by omega, b5, by omega, b7, by omega, b9⟩
      obtain ⟨g1, g2, g3, g4⟩ := pe_left_R h1 hE1
      obtain ⟨g5, g6⟩ := ih _ _ _ _ _ h g4.1
      refine ⟨g5, pl_R.tr ?_ g6⟩
      obtain ⟨a1, a2, a3⟩ := g4
      exact ⟨a1, by omega, a3⟩
    · have h' := Sum.inr.inj (Option.some.inj h)
      cases h'
      refine ⟨rfl, hE, Nat.le_refl _, pq_same.rf, rfl, rfl, Nat.le_refl _, pf_old.rf, fun _ => ⟨rfl, rfl, rfl⟩, fun j h1 h2 => by omega, fun v _ => ?_⟩
      rw [Nat.sub_self]
      exact (Int32.add_zero _).symm
