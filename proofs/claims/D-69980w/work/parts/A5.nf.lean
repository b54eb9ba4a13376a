/-! the equations of a node, one behind the other; judged -/
set_option maxRecDepth 100000
/-- the equations q .. q' - 1 over the expressions p .. p' - 1 and the left sides l .. l' - 1 -/
def nf_P (T : Nat → Int32) (n : Nat) (S : MS) (q q' p p' l l' : Nat) : Prop := ∃ P L : Nat → Nat, P q = p ∧ P q' = p' ∧ L q = l ∧ L q' = l' ∧ ∀ k, q ≤ k → k < q' → ∃ c, pe_W T n S k c (P k) (P (k + 1)) (L k) (L (k + 1))
theorem pe_eqs_P {T : Nat → Int32} {n f0 N p0 : Nat} {U : Nat → Nat → Int32} {S0 : MS} {k0 l0 : Nat} : ∀ f c S e c' S', pe_eqs T n f0 f c S = some (.inr (e, c', S')) → pn_E n c S → S.2 26 (pr_k S) = nI (pr_l S) → k0 ≤ pr_k S → p0 ≤ pr_p S → l0 ≤ pr_l S → nf_P T n S k0 (pr_k S) p0 (pr_p S) l0 (pr_l S) → nx_I N p0 U S → pq_same S0 S →
    (∀ v, v < 6000 → S.2 23 v = S0.2 23 v + nI (gc (S.2 28) (pr_a S) v l0 (pr_l S - l0))) → pf_old k0 l0 p0 S0 S →
    nf_P T n S' k0 (pr_k S') p0 (pr_p S') l0 (pr_l S') ∧ nx_I N p0 U S' ∧ (∀ v, v < 6000 → S'.2 23 v = S0.2 23 v + nI (gc (S'.2 28) (pr_a S') v l0 (pr_l S' - l0))) ∧ pf_old k0 l0 p0 S0 S' ∧ p0 ≤ pr_p S' ∧ l0 ≤ pr_l S' := by
  intro f
  induction f with
  | zero => intro c S e c' S' h; cases h
  | succ f ih =>
    intro c S e c' S' h hE hB hk0 hp0 hl0 hW hN hs0 hg ho
    unfold pe_eqs at h
    obtain ⟨e1, c1, S1, h1, h⟩ := pr_b_ok h
    obtain ⟨a1, a2, a3, a4, a5, a6, a7, a8, a9⟩ := pe_eq_ok h1 hE hB
    have hN1 := pe_eq_nx h1 hE hN
    have hp := a9.2.2.2.2.1
    have hl := a9.2.2.2.2.2.2.2.1
    have hW1 : nf_P T n S1 k0 (pr_k S1) p0 (pr_p S1) l0 (pr_l S1) := by
      obtain ⟨P, L, q1, q2, q3, q4, q5⟩ := hW
      refine ⟨fun k => if k = pr_k S + 1 then pr_p S1 else P k, fun k => if k = pr_k S + 1 then pr_l S1 else L k, ?_, ?_, ?_, ?_, fun k r1 r2 => ?_⟩
      · show (if k0 = pr_k S + 1 then pr_p S1 else P k0) = p0
        rw [if_neg (by omega)]; exact q1
      · show (if pr_k S1 = pr_k S + 1 then pr_p S1 else P (pr_k S1)) = pr_p S1
        rw [if_pos a6]
      · show (if k0 = pr_k S + 1 then pr_l S1 else L k0) = l0
        rw [if_neg (by omega)]; exact q3
      · show (if pr_k S1 = pr_k S + 1 then pr_l S1 else L (pr_k S1)) = pr_l S1
        rw [if_pos a6]
      · show ∃ c, pe_W T n S1 k c (if k = pr_k S + 1 then pr_p S1 else P k) (if k + 1 = pr_k S + 1 then pr_p S1 else P (k + 1)) (if k = pr_k S + 1 then pr_l S1 else L k) (if k + 1 = pr_k S + 1 then pr_l S1 else L (k + 1))
        have eP : (if k = pr_k S + 1 then pr_p S1 else P k) = P k := if_neg (by omega)
        have eL : (if k = pr_k S + 1 then pr_l S1 else L k) = L k := if_neg (by omega)
        rw [eP, eL]
        rcases Nat.lt_or_ge k (pr_k S) with q | q
        · have eP1 : (if k + 1 = pr_k S + 1 then pr_p S1 else P (k + 1)) = P (k + 1) := if_neg (by omega)
          have eL1 : (if k + 1 = pr_k S + 1 then pr_l S1 else L (k + 1)) = L (k + 1) := if_neg (by omega)
          rw [eP1, eL1]
          obtain ⟨c0, w⟩ := q5 k r1 q
          have mono : ∀ m, k + 1 + m ≤ pr_k S → P (k + 1) ≤ P (k + 1 + m) ∧ L (k + 1) ≤ L (k + 1 + m) := by
            intro m
            induction m with
            | zero => intro _; exact ⟨Nat.le_refl _, Nat.le_refl _⟩
            | succ m im =>
              intro hm
              obtain ⟨i1, i2⟩ := im (by omega)
              obtain ⟨c9, w9⟩ := q5 (k + 1 + m) (by omega) (by omega)
              have := w9.2.2.2.2.1
              have := w9.2.2.2.2.2.2.2.1
              exact ⟨by rw [← Nat.add_assoc]; omega, by rw [← Nat.add_assoc]; omega⟩
          have mm := mono (pr_k S - (k + 1)) (by omega)
          rw [show k + 1 + (pr_k S - (k + 1)) = pr_k S by omega, q2, q4] at mm
          exact ⟨c0, w.keep a5 a7 q mm.1 mm.2⟩
        · have e1 : k = pr_k S := by omega
          subst e1
          rw [if_pos rfl, if_pos rfl, q2, q4]
          exact ⟨c, a9⟩
    have hg1 : ∀ v, v < 6000 → S1.2 23 v = S0.2 23 v + nI (gc (S1.2 28) (pr_a S1) v l0 (pr_l S1 - l0)) := fun v hv => by
      rw [a8 v hv, hg v hv, Int32.add_assoc, nI_add, a5.a]
      congr 2
      rw [show pr_l S1 - l0 = (pr_l S - l0) + (pr_l S1 - pr_l S) by omega, gc_add, show l0 + (pr_l S - l0) = pr_l S by omega]
      congr 1
      exact gc_cg _ (fun j r1 r2 => (a7.2.2.1 j (by omega)).symm)
    have ho1 := ho.tr a7 hk0 hl0 hp0
    split at h
    · have h' := Sum.inr.inj (Option.some.inj h)
      cases h'
      exact ⟨hW1, hN1, hg1, ho1, by omega, by omega⟩
    · exact ih _ _ _ _ _ h a2 a3 (by omega) (by omega) (by omega) hW1 hN1 (hs0.tr a5) hg1 ho1
/-! judging leaves the types and clocks -/
theorem getD_mem {ks : List Nat} {i : Nat} (hi : i < ks.length) : ks.getD i 0 ∈ ks := by
  rw [List.getD_eq_getElem?_getD, List.getElem?_eq_getElem hi]
  exact List.getElem_mem hi
theorem jt_all_cg {A A' g : Nat → Int32} : ∀ (ks : List Nat) (i : Nat), (∀ k ∈ ks, A' k = A k) → jt_all A' g i ks = jt_all A g i ks
  | [], _, _ => rfl
  | k :: ks, i, h => by rw [jt_all, jt_all, h k List.mem_cons_self, jt_all_cg ks (i + 1) (fun q hq => h q (List.mem_cons_of_mem _ hq))]
theorem jt_cg {S : MS} {A A' : Nat → Int32} {e outs : Nat} {ks : List Nat} (hs : pw_s S (S.2 32 e) (S.2 33 e) ks.length) (h : ∀ k ∈ ks, A' k = A k) : jt S A' e ks outs = jt S A e ks outs := by
  have hg : ∀ i, i < ks.length → A' (ks.getD i 0) = A (ks.getD i 0) := fun i hi => h _ (getD_mem hi)
  unfold jt
  rcases hs with ⟨q, -⟩ | ⟨q, -⟩ | ⟨q, -⟩ | ⟨q, -⟩ | ⟨q, m⟩ | ⟨q, q2, m⟩ | ⟨q, q2, m⟩ | ⟨q, m, -⟩
  · rw [q]; rfl
  · rw [q]; rfl
  · rw [q]; rfl
  · rw [if_pos q, if_pos q, jt_all_cg ks _ h]
  · rw [hg 0 (by omega), hg 1 (by omega), hg 2 (by omega)]
    simp only [q]
    rfl
  · rw [hg 0 (by omega), hg 1 (by omega)]
    rcases lk_range _ ⟨q, q2⟩ with e | e | e | e | e | e | e | e | e | e | e | e | e | e | e | e | e <;> simp only [e] <;> rfl
  · rw [hg 0 (by omega)]
    rcases lk_range2 _ ⟨q, Int32.le_trans q2 (by decide)⟩ with e | e | e | e | e <;> simp only [e] <;> rfl
  · rw [hg 0 (by omega)]
    simp only [q]
    rfl
theorem jc_all_cg {C C' : Nat → Int32} : ∀ (ks : List Nat) (c : Int32), (∀ k ∈ ks, C' k = C k) → jc_all C' c ks = jc_all C c ks
  | [], _, _ => rfl
  | k :: ks, c, h => by
    rw [jc_all, jc_all, h k List.mem_cons_self]
    split
    · rfl
    · exact jc_all_cg ks _ (fun q hq => h q (List.mem_cons_of_mem _ hq))
theorem jc_cg {S : MS} {C C' : Nat → Int32} {e : Nat} {ks : List Nat} (hs : pw_s S (S.2 32 e) (S.2 33 e) ks.length) (h : ∀ k ∈ ks, C' k = C k) : jc S C' e ks = jc S C e ks := by
  have hg : ∀ i, i < ks.length → C' (ks.getD i 0) = C (ks.getD i 0) := fun i hi => h _ (getD_mem hi)
  unfold jc
  rw [jc_all_cg ks _ h]
  by_cases q2 : S.2 32 e = 2
  · rw [if_pos q2, if_pos q2]
  rw [if_neg q2, if_neg q2]
  by_cases q26 : S.2 32 e = 26
  · rw [if_pos q26, if_pos q26, hg 0]
    rcases hs with ⟨q, -⟩ | ⟨q, -⟩ | ⟨q, -⟩ | ⟨q, -⟩ | ⟨q, m⟩ | ⟨q, r, m⟩ | ⟨q, r, m⟩ | ⟨q, m, -⟩
    · rw [q] at q26; exact absurd q26 (by decide)
    · rw [q] at q26; exact absurd q26 (by decide)
    · rw [q] at q26; exact absurd q26 (by decide)
    · rw [q] at q26; exact absurd q26 (by decide)
    · rw [q] at q26; exact absurd q26 (by decide)
    · rw [q26] at r; exact absurd r (by decide)
    · rw [q26] at r; exact absurd r (by decide)
    · omega
  rw [if_neg q26, if_neg q26]
  by_cases q25 : S.2 32 e = 25
  · rw [if_pos q25, if_pos q25, hg 0]
    rcases hs with ⟨q, -⟩ | ⟨q, -⟩ | ⟨q, -⟩ | ⟨q, -⟩ | ⟨q, m⟩ | ⟨q, r, m⟩ | ⟨q, r, m⟩ | ⟨q, m, -⟩
    · rw [q] at q25; exact absurd q25 (by decide)
    · rw [q] at q25; exact absurd q25 (by decide)
    · rw [q] at q25; exact absurd q25 (by decide)
    · rw [q] at q25; exact absurd q25 (by decide)
    · rw [q] at q25; exact absurd q25 (by decide)
    · rw [q25] at r; exact absurd r (by decide)
    · omega
    · omega
  rw [if_neg q25, if_neg q25]
theorem jg_ty_fix {S : MS} {b outs : Nat} : ∀ M A e A', (∀ x, e ≤ x → x < e + M → pw_s S (S.2 32 x) (S.2 33 x) (kls S x).length ∧ ∀ k ∈ kls S x, k < x) → jg_ty S b outs M A e = .inr A' → (∀ j, j < e ∨ e + M ≤ j → A' j = A j) ∧ ∀ x, e ≤ x → x < e + M → jt S A' x (kls S x) (if x = b then outs else 1) = .inr (A' x) := by
  intro M
  induction M with
  | zero =>
    intro A e A' _ h
    have h' := Sum.inr.inj h
    subst h'
    exact ⟨fun _ _ => rfl, fun x a b => by omega⟩
  | succ M ih =>
    intro A e A' hk h
    rw [jg_ty] at h
    split at h
    · cases h
    · rename_i t ht
      obtain ⟨g1, g2⟩ := ih _ _ _ (fun x a b => hk x (by omega) (by omega)) h
      have up : ∀ j, j < e → A' j = A j := fun j hj => by
        rw [g1 j (Or.inl (by omega))]
        exact if_neg (by omega)
      refine ⟨fun j hj => ?_, fun x x1 x2 => ?_⟩
      · rcases hj with hj | hj
        · exact up j hj
        · rw [g1 j (Or.inr (by omega))]
          exact if_neg (by omega)
      · rcases Nat.lt_or_ge e x with q | q
        · exact g2 x q (by omega)
        · have : x = e := by omega
          subst this
          obtain ⟨k1, k2⟩ := hk x (Nat.le_refl _) (by omega)
          rw [jt_cg k1 (fun k hk' => up k (k2 k hk')), ht, g1 x (Or.inl (by omega))]
          show _ = Sum.inr (if x = x then t else A x)
          rw [if_pos rfl]
theorem jg_cl_fix {S : MS} : ∀ M C e C', (∀ x, e ≤ x → x < e + M → pw_s S (S.2 32 x) (S.2 33 x) (kls S x).length ∧ ∀ k ∈ kls S x, k < x) → jg_cl S M C e = .inr C' → (∀ j, j < e ∨ e + M ≤ j → C' j = C j) ∧ ∀ x, e ≤ x → x < e + M → jc S C' x (kls S x) = .inr (C' x) := by
  intro M
  induction M with
  | zero =>
    intro C e C' _ h
    have h' := Sum.inr.inj h
    subst h'
    exact ⟨fun _ _ => rfl, fun x a b => by omega⟩
  | succ M ih =>
    intro C e C' hk h
    rw [jg_cl] at h
    split at h
    · cases h
    · rename_i t ht
      obtain ⟨g1, g2⟩ := ih _ _ _ (fun x a b => hk x (by omega) (by omega)) h
      have up : ∀ j, j < e → C' j = C j := fun j hj => by
        rw [g1 j (Or.inl (by omega))]
        exact if_neg (by omega)
      refine ⟨fun j hj => ?_, fun x x1 x2 => ?_⟩
      · rcases hj with hj | hj
        · exact up j hj
        · rw [g1 j (Or.inr (by omega))]
          exact if_neg (by omega)
      · rcases Nat.lt_or_ge e x with q | q
        · exact g2 x q (by omega)
        · have : x = e := by omega
          subst this
          obtain ⟨k1, k2⟩ := hk x (Nat.le_refl _) (by omega)
          rw [jc_cg k1 (fun k hk' => up k (k2 k hk')), ht, g1 x (Or.inl (by omega))]
          show _ = Sum.inr (if x = x then t else C x)
          rw [if_pos rfl]
/-- an equation k, judged: over the expressions p .. p' - 1, the left sides l .. l' - 1; the types A, the clocks C -/
def nf_J (S : MS) (A C : Nat → Int32) (k p p' l l' : Nat) : Prop :=
  (∀ e, p ≤ e → e < p' → jt S A e (kls S e) (if e = p' - 1 then (if S.2 0 (jg_n (S.2 25 k)) = 40 then l' - l else 1) else 1) = .inr (A e) ∧ jc S C e (kls S e) = .inr (C e)) ∧
  jg_lt S (jg_g S A (decide (S.2 0 (jg_n (S.2 25 k)) = 40)) (p' - 1)) l (l' - l) 0 = true ∧ ∃ c, jg_lc S l (l' - l) 0 (C (p' - 1)) = .inr c
theorem pw_n.kids {S : MS} {e : Nat} (h : pw_n S e) (he : e < 2 ^ 31) : pw_s S (S.2 32 e) (S.2 33 e) (kls S e).length ∧ ∀ k ∈ kls S e, k < e := by
  obtain ⟨h1, h2, h3⟩ := h.kl he
  exact ⟨h3, fun k hk => ((pw_k_mem _ _ h2).2 k hk).2⟩
theorem jg_J {T : Nat → Int32} {n k c p p' l l' : Nat} {S S' : MS} (hW : pe_W T n S k c p p' l l') (hp : p' < 2 ^ 31) (hl : l' < 2 ^ 31) (h : jg S k = .inr S') : ∃ A C, S' = jg_st S k A C ∧ nf_J S A C k p p' l l' ∧ (∀ j, j < p ∨ p' ≤ j → A j = S.2 41 j ∧ C j = S.2 36 j) := by
  obtain ⟨w1, w2, w3, w4, w5, w6, w7, w8, w9, w10, w11, w12, w13⟩ := hW
  unfold jg at h
  rw [w3, w4, w6, w7, jg_n, jg_n, jg_n, jg_n, nI_clamp (n := p) (by omega), nI_clamp (n := p' - 1) (by omega), nI_clamp (n := l) (by omega), nI_clamp (n := l') (by omega)] at h
  have hks : ∀ x, p ≤ x → x < p + (p' - 1 + 1 - p) → pw_s S (S.2 32 x) (S.2 33 x) (kls S x).length ∧ ∀ k ∈ kls S x, k < x := fun x x1 x2 => (w10 x x1 (by omega)).2.kids (by omega)
  unfold jg0 at h
  split at h
  · cases h
  rename_i A hA
  obtain ⟨a1, a2⟩ := jg_ty_fix _ _ _ _ hks hA
  split at h
  · rename_i hlt
    split at h
    · cases h
    rename_i C hC
    obtain ⟨c1, c2⟩ := jg_cl_fix _ _ _ _ hks hC
    split at h
    · cases h
    · rename_i cc hcc
      refine ⟨A, C, (Sum.inr.inj h).symm, ⟨fun e e1 e2 => ⟨?_, c2 e e1 (by omega)⟩, hlt, cc, hcc⟩, fun j hj => ⟨a1 j (by omega), c1 j (by omega)⟩⟩
      have := a2 e e1 (by omega)
      have e9 : (if decide (S.2 0 (jg_n (S.2 25 k)) = 40) = true then l' - l else 1) = if S.2 0 (jg_n (S.2 25 k)) = 40 then l' - l else 1 := by
        by_cases u : S.2 0 (jg_n (S.2 25 k)) = 40
        · rw [if_pos u, if_pos (decide_eq_true u)]
        · rw [if_neg u, if_neg (by rw [decide_eq_false u]; decide)]
      rw [← e9]
      exact this
  · cases h
