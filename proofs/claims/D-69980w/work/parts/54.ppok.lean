/-! what a parse leaves: a forest in postorder -/
set_option maxRecDepth 100000
/-- the chain of parts from x on: their numbers -/
def md_ch (B : Nat → Int32) : Int32 → List Nat → Prop
  | x, [] => x < 0
  | x, k :: ks => x = nI k ∧ md_ch B (B k) ks
theorem md_ch_cg {B B' : Nat → Int32} : ∀ (ks : List Nat) (x : Int32), (∀ k ∈ ks, B k = B' k) → md_ch B x ks → md_ch B' x ks
  | [], _, _, h => h
  | k :: ks, x, h, h1 => ⟨h1.1, by rw [← h k List.mem_cons_self]; exact md_ch_cg ks _ (fun q hq => h q (List.mem_cons_of_mem _ hq)) h1.2⟩
/-- where the subtree of e begins -/
def lw (K : Nat → Int32) (e : Nat) : Nat := if K e < 0 ∨ ¬ (K e).toNatClampNeg < e then e else lw K (K e).toNatClampNeg
termination_by e
decreasing_by omega
theorem lw_eq (K : Nat → Int32) (e : Nat) : lw K e = if K e < 0 ∨ ¬ (K e).toNatClampNeg < e then e else lw K (K e).toNatClampNeg := by rw [lw]
theorem lw_0 {K : Nat → Int32} {e : Nat} (h : K e < 0) : lw K e = e := by rw [lw_eq, if_pos (Or.inl h)]
theorem lw_1 {K : Nat → Int32} {e k : Nat} (h : K e = nI k) (hk : k < e) (he : e < 2 ^ 31) : lw K e = lw K k := by
  rw [lw_eq, h, nI_clamp (by omega), if_neg]
  rintro (q | q)
  · exact nI_pos (by omega) q
  · exact q hk
theorem lw_cg {K K' : Nat → Int32} : ∀ m e, e ≤ m → (∀ j, j ≤ m → K j = K' j) → lw K e = lw K' e := by
  intro m
  induction m with
  | zero =>
    intro e he h
    have e0 : e = 0 := by omega
    subst e0
    rw [lw_eq K 0, lw_eq K' 0, if_pos (Or.inr (by omega)), if_pos (Or.inr (by omega))]
  | succ m ih =>
    intro e he h
    rw [lw_eq K e, lw_eq K' e, ← h e he]
    by_cases q : K e < 0 ∨ ¬ (K e).toNatClampNeg < e
    · rw [if_pos q, if_pos q]
    · rw [if_neg q, if_neg q]
      have q2 : (K e).toNatClampNeg < e := Decidable.byContradiction fun u => q (Or.inr u)
      exact ih _ (by omega) (fun j hj => h j (by omega))
/-- the parts ks of e: their subtrees lie one behind the other from l on up to e -/
def pw_k (L : Nat → Nat) : Nat → List Nat → Nat → Prop
  | l, [], e => l = e
  | l, k :: ks, e => L k = l ∧ l ≤ k ∧ k < e ∧ pw_k L (k + 1) ks e
theorem pw_k_mem {L : Nat → Nat} {e : Nat} : ∀ (ks : List Nat) (l : Nat), pw_k L l ks e → l ≤ e ∧ ∀ k ∈ ks, l ≤ k ∧ k < e
  | [], l, h => ⟨Nat.le_of_eq h, fun k hk => by cases hk⟩
  | k :: ks, l, h => by
    obtain ⟨-, h1, h2, h3⟩ := h
    obtain ⟨g1, g2⟩ := pw_k_mem ks (k + 1) h3
    refine ⟨by omega, fun q hq => ?_⟩
    rcases List.mem_cons.1 hq with e | hq
    · rw [e]; exact ⟨h1, h2⟩
    · have := g2 q hq
      omega
theorem pw_k_cg {L L' : Nat → Nat} {e : Nat} : ∀ (ks : List Nat) (l : Nat), (∀ k, k < e → L k = L' k) → pw_k L l ks e → pw_k L' l ks e
  | [], _, _, h => h
  | k :: ks, l, h0, h => ⟨by rw [← h0 k h.2.2.1]; exact h.1, h.2.1, h.2.2.1, pw_k_cg ks (k + 1) h0 h.2.2.2⟩
/-- one more -/
theorem pw_k_app {L : Nat → Nat} {e x : Nat} : ∀ (ks : List Nat) (l : Nat), pw_k L l ks e → L x = e → e ≤ x → pw_k L l (ks ++ [x]) (x + 1)
  | [], l, h, h1, h2 => ⟨by rw [h1]; exact h.symm, by have : l = e := h; omega, by omega, rfl⟩
  | k :: ks, l, h, h1, h2 => ⟨h.1, h.2.1, by have := h.2.2.1; omega, pw_k_app ks (k + 1) h.2.2.2 h1 h2⟩
theorem pw_k_last {L : Nat → Nat} {e : Nat} : ∀ (ks : List Nat) (l : Nat), ks ≠ [] → pw_k L l ks e → ks.getLastD 0 + 1 = e
  | [], _, h, _ => absurd rfl h
  | [k], l, _, h => h.2.2.2
  | k :: k2 :: ks, l, _, h => pw_k_last (k2 :: ks) (k + 1) (by simp) h.2.2.2
/-- a chain's end gets one more -/
theorem md_ch_app {L : Nat → Nat} {B : Nat → Int32} {e x : Nat} : ∀ (ks : List Nat) (l : Nat) (y : Int32), ks ≠ [] → pw_k L l ks e → e ≤ x → B x < 0 → md_ch B y ks → md_ch (fun j => if j = ks.getLastD 0 then nI x else B j) y (ks ++ [x])
  | [], _, _, h, _, _, _, _ => absurd rfl h
  | [k], l, y, _, h, h1, h2, h3 => ⟨h3.1, by
      show md_ch _ (if k = k then nI x else B k) [x]
      rw [if_pos rfl]
      refine ⟨rfl, ?_⟩
      show (if x = k then nI x else B x) < 0
      rw [if_neg (by have := h.2.2.1; omega)]
      exact h2⟩
  | k :: k2 :: ks, l, y, _, h, h1, h2, h3 => by
      have hl := pw_k_last (k2 :: ks) (k + 1) (by simp) h.2.2.2
      have hm := (pw_k_mem (k2 :: ks) (k + 1) h.2.2.2).2 k2 List.mem_cons_self
      refine ⟨h3.1, ?_⟩
      have e1 : (if k = (k :: k2 :: ks).getLastD 0 then nI x else B k) = B k := by
        rw [if_neg]
        have : (k :: k2 :: ks).getLastD 0 = (k2 :: ks).getLastD 0 := rfl
        rw [this]; omega
      show md_ch _ (if k = (k :: k2 :: ks).getLastD 0 then nI x else B k) _
      rw [e1]
      exact md_ch_app (k2 :: ks) (k + 1) (B k) (by simp) h.2.2.2 h1 h2 h3.2
/-- what the kinds ask: how many parts; what is named -/
def pw_s (S : MS) (kind what : Int32) (m : Nat) : Prop :=
  (kind = 0 ∧ m = 0) ∨ (kind = 1 ∧ m = 0 ∧ (what = 0 ∨ what = 1)) ∨ (kind = 2 ∧ m = 0 ∧ ∃ v, pr_a S + v < pr_v S ∧ what = nI v) ∨ (kind = 3 ∧ 1 ≤ m ∧ ∃ k, k < pr_N S ∧ what = nI k) ∨
  (kind = 4 ∧ m = 3) ∨ (5 ≤ kind ∧ kind ≤ 21 ∧ m = 2) ∨ (22 ≤ kind ∧ kind ≤ 25 ∧ m = 1) ∨ (kind = 26 ∧ m = 1 ∧ ∃ v s, s < 2 ∧ pr_a S + v < pr_v S ∧ S.2 24 (pr_a S + v) ≠ 0 ∧ what = nI (2 * v + s))
def pw_n (S : MS) (e : Nat) : Prop := ∃ ks, md_ch (S.2 35) (S.2 34 e) ks ∧ pw_k (lw (S.2 34)) (lw (S.2 34) e) ks e ∧ pw_s S (S.2 32 e) (S.2 33 e) ks.length
def pw (S : MS) (lo hi : Nat) : Prop := ∀ e, lo ≤ e → e < hi → lo ≤ lw (S.2 34) e ∧ pw_n S e
/-- nothing but expressions has changed -/
def pe_same (S S' : MS) : Prop := (∀ k, k ≠ 40 → S'.1 k = S.1 k) ∧ ∀ k, k ≠ 16 → k ≠ 17 → ¬ (32 ≤ k ∧ k ≤ 39) → S'.2 k = S.2 k
theorem pe_same.rf {S : MS} : pe_same S S := ⟨fun _ _ => rfl, fun _ _ _ _ => rfl⟩
theorem pe_same.tr {S S1 S2 : MS} (h : pe_same S S1) (h2 : pe_same S1 S2) : pe_same S S2 := ⟨fun k hk => (h2.1 k hk).trans (h.1 k hk), fun k a b c => (h2.2 k a b c).trans (h.2 k a b c)⟩
theorem pe_same.N {S S' : MS} (h : pe_same S S') : pr_N S' = pr_N S := by rw [pr_N, pr_N, h.1 18 (by omega)]
theorem pe_same.a {S S' : MS} (h : pe_same S S') : pr_a S' = pr_a S := by rw [pr_a, pr_a, h.N, h.2 12 (by omega) (by omega) (by omega)]
theorem pe_same.v {S S' : MS} (h : pe_same S S') : pr_v S' = pr_v S := by rw [pr_v, pr_v, h.1 19 (by omega)]
theorem pw_s.same {S S' : MS} (h : pe_same S S') {kind what : Int32} {m : Nat} (q : pw_s S kind what m) : pw_s S' kind what m := by
  unfold pw_s
  rw [h.N, h.a, h.v, h.2 24 (by omega) (by omega) (by omega)]
  exact q
/-- the same forest in a later state -/
theorem pw.cg {S S' : MS} {lo hi : Nat} (h : pe_same S S') (hk : ∀ q j, 32 ≤ q → q ≤ 34 → j < hi → S'.2 q j = S.2 q j) (hb : ∀ j, lo ≤ j → j + 1 < hi → S'.2 35 j = S.2 35 j) (q : pw S lo hi) : pw S' lo hi := by
  intro e h1 h2
  obtain ⟨g1, ks, g2, g3, g4⟩ := q e h1 h2
  have hlw : ∀ k, k < hi → lw (S'.2 34) k = lw (S.2 34) k := fun k hk' => lw_cg (hi - 1) k (by omega) (fun j hj => hk 34 j (by omega) (by omega) (by omega))
  refine ⟨by rw [hlw e h2]; exact g1, ks, ?_, ?_, ?_⟩
  · rw [hk 34 e (by omega) (by omega) h2]
    refine md_ch_cg ks _ (fun k hk' => ?_) g2
    have := (pw_k_mem ks _ g3).2 k hk'
    exact (hb k (by omega) (by omega)).symm
  · rw [hlw e h2]
    exact pw_k_cg ks _ (fun k hk' => (hlw k (by omega)).symm) g3
  · rw [hk 32 e (by omega) (by omega) h2, hk 33 e (by omega) (by omega) h2]
    exact g4.same h
theorem pw.cat {S : MS} {lo mi hi : Nat} (h1 : pw S lo mi) (h2 : pw S mi hi) (hle : lo ≤ mi) : pw S lo hi := fun e a b => by
  rcases Nat.lt_or_ge e mi with q | q
  · exact h1 e a q
  · have := h2 e q b
    exact ⟨by omega, this.2⟩
/-! what making an expression leaves -/
theorem pm_kid_1 {p : Nat} {σ : MS} {k : Nat} : (pm_kid p σ k).1 = σ.1 := rfl
theorem pm_kid_2 {p : Nat} {σ : MS} {k q j : Nat} (h : (q ≠ 38 ∧ q ≠ 39) ∨ j ≠ p) : (pm_kid p σ k).2 q j = σ.2 q j := by
  have A : ∀ (s : MS) (a : Nat) (v : Int32), (a ≠ q ∨ j ≠ p) → (ml_sa s a p v).2 q j = s.2 q j := fun s a v h => by
    rw [ml_sa_a]
    split
    · rw [if_neg (by omega)]
    · rfl
  unfold pm_kid
  rw [A _ _ _ (by omega), A _ _ _ (by omega)]
theorem pm_kids_1 {p : Nat} : ∀ (ks : List Nat) (σ : MS), (ks.foldl (pm_kid p) σ).1 = σ.1
  | [], _ => rfl
  | k :: ks, σ => pm_kids_1 ks (pm_kid p σ k)
theorem pm_kids_2 {p q j : Nat} (h : (q ≠ 38 ∧ q ≠ 39) ∨ j ≠ p) : ∀ (ks : List Nat) (σ : MS), (ks.foldl (pm_kid p) σ).2 q j = σ.2 q j
  | [], _ => rfl
  | k :: ks, σ => (pm_kids_2 h ks (pm_kid p σ k)).trans (pm_kid_2 h)
theorem pm_0_2 {σ : MS} {p : Nat} {kind what x : Int32} {q j : Nat} (h : j ≠ p ∨ ¬ (32 ≤ q ∧ q ≤ 39 ∧ q ≠ 37)) : (pm_0 σ p kind what x).2 q j = σ.2 q j := by
  have A : ∀ (s : MS) (a : Nat) (v : Int32), (a ≠ q ∨ j ≠ p) → (ml_sa s a p v).2 q j = s.2 q j := fun s a v h => by
    rw [ml_sa_a]
    split
    · rw [if_neg (by omega)]
    · rfl
  unfold pm_0
  rw [A _ _ _ (by omega), A _ _ _ (by omega), A _ _ _ (by omega), A _ _ _ (by omega), A _ _ _ (by omega), A _ _ _ (by omega), A _ _ _ (by omega)]
  rfl
theorem pm_mk_1 {σ : MS} {p : Nat} {kind what : Int32} {ks : List Nat} {k : Nat} : (pm_mk σ p kind what ks).1 k = if k = 40 then nI (p + 1) else σ.1 k := by
  unfold pm_mk
  rw [pm_kids_1]
  rfl
theorem pm_mk_2 {σ : MS} {p : Nat} {kind what : Int32} {ks : List Nat} {q j : Nat} (h : j ≠ p ∨ ¬ (32 ≤ q ∧ q ≤ 39 ∧ q ≠ 37)) : (pm_mk σ p kind what ks).2 q j = σ.2 q j := by
  unfold pm_mk
  rw [pm_kids_2 (by omega), pm_0_2 h]
theorem pm_mk_p {σ : MS} {p : Nat} {kind what : Int32} {ks : List Nat} : (pm_mk σ p kind what ks).2 32 p = kind ∧ (pm_mk σ p kind what ks).2 33 p = what ∧ (pm_mk σ p kind what ks).2 34 p = pm_first ks ∧ (pm_mk σ p kind what ks).2 35 p = -1 ∧ (pm_mk σ p kind what ks).2 36 p = -2 := by
  unfold pm_mk
  rw [pm_kids_2 (Or.inl ⟨by omega, by omega⟩), pm_kids_2 (Or.inl ⟨by omega, by omega⟩), pm_kids_2 (Or.inl ⟨by omega, by omega⟩), pm_kids_2 (Or.inl ⟨by omega, by omega⟩), pm_kids_2 (Or.inl ⟨by omega, by omega⟩)]
  unfold pm_0
  simp [ml_sa_a]
theorem pm_fin_1 {N : Nat} {kind : Int32} {p : Nat} {σ : MS} : (pm_fin N kind p σ).1 = σ.1 := by
  unfold pm_fin
  split
  · rfl
  · split <;> rfl
theorem pm_fin_2 {N : Nat} {kind : Int32} {p : Nat} {σ : MS} {q j : Nat} (h : q ≠ 17 ∧ (q ≠ 37 ∨ j ≠ p)) : (pm_fin N kind p σ).2 q j = σ.2 q j := by
  unfold pm_fin
  obtain ⟨h1, h2⟩ := h
  split
  · rw [ml_sa_a, ml_sa_a, if_neg h1]
    split
    · rename_i e
      rw [if_neg (by omega)]
    · rfl
  · split
    · rw [ml_sa_a, if_neg h1, ml_sa_a]
      split
      · rename_i e
        rw [if_neg (by omega)]
      · rfl
    · rfl
/-- what pr_make leaves -/
def pe_M (S S' : MS) (p : Nat) (kind what : Int32) (ks : List Nat) : Prop :=
  pe_same S S' ∧ S'.1 40 = nI (p + 1) ∧ (∀ q j, 32 ≤ q → q ≤ 39 → j ≠ p → S'.2 q j = S.2 q j) ∧ S'.2 32 p = kind ∧ S'.2 33 p = what ∧ S'.2 34 p = pm_first ks ∧ S'.2 35 p = -1 ∧ S'.2 36 p = -2
theorem pr_make_ok {S : MS} {kind what : Int32} {ks : List Nat} {c p : Nat} {q : Nat × Nat × MS} (h : pr_make S kind what ks c = some (.inr q)) (hp : S.1 40 = nI p) (hp2 : p < 2 ^ 31) : q.1 = p ∧ q.2.1 = c ∧ pe_M S q.2.2 p kind what ks := by
  have e : pr_p S = p := by rw [pr_p, hp, nI_clamp hp2]
  unfold pr_make at h
  rw [e] at h
  split at h
  · have h' := Sum.inr.inj (Option.some.inj h)
    subst h'
    obtain ⟨m1, m2, m3, m4, m5⟩ := pm_mk_p (σ := S) (p := p) (kind := kind) (what := what) (ks := ks)
    refine ⟨rfl, rfl, ⟨fun k hk => ?_, fun k h1 h2 h3 => ?_⟩, ?_, fun q j h1 h2 h3 => ?_, ?_, ?_, ?_, ?_, ?_⟩
    · show (pm_fin _ _ _ _).1 k = _
      rw [pm_fin_1, pm_mk_1, if_neg hk]
    · funext j
      show (pm_fin _ _ _ _).2 k j = _
      rw [pm_fin_2 ⟨h2, by omega⟩, pm_mk_2 (by omega)]
    · show (pm_fin _ _ _ _).1 40 = _
      rw [pm_fin_1, pm_mk_1, if_pos rfl]
    · show (pm_fin _ _ _ _).2 q j = _
      rw [pm_fin_2 ⟨by omega, Or.inr h3⟩, pm_mk_2 (Or.inl h3)]
    · show (pm_fin _ _ _ _).2 32 p = _
      rw [pm_fin_2 ⟨by omega, by omega⟩, m1]
    · show (pm_fin _ _ _ _).2 33 p = _
      rw [pm_fin_2 ⟨by omega, by omega⟩, m2]
    · show (pm_fin _ _ _ _).2 34 p = _
      rw [pm_fin_2 ⟨by omega, by omega⟩, m3]
    · show (pm_fin _ _ _ _).2 35 p = _
      rw [pm_fin_2 ⟨by omega, by omega⟩, m4]
    · show (pm_fin _ _ _ _).2 36 p = _
      rw [pm_fin_2 ⟨by omega, by omega⟩, m5]
  · cases h
theorem pr_call_ok {S : MS} {k : Nat} {ks : List Nat} {c p : Nat} {q : Nat × Nat × MS} (h : pr_call S k ks c = some (.inr q)) (hp : S.1 40 = nI p) (hp2 : p < 2 ^ 31) : q.1 = p ∧ q.2.1 = c ∧ pe_M S q.2.2 p 3 (nI k) ks := by
  obtain ⟨e, c', S', h1, h2⟩ := pr_b_ok h
  obtain ⟨g1, g2, g3, g4, g5, g6, g7, g8, g9, g10⟩ := pr_make_ok h1 hp hp2
  have h' := Sum.inr.inj (Option.some.inj h2)
  subst h'
  have g1' : e = p := g1
  subst g1'
  refine ⟨rfl, g2, g3.tr ⟨fun k hk => rfl, fun q h1 h2 h3 => ?_⟩, g4, fun q j h1 h2 h3 => ?_, ?_, ?_, ?_, ?_, ?_⟩
  · funext j
    show (pm_cl S' _ e).2 q j = _
    unfold pm_cl
    rw [ml_sa_a, if_neg (by omega), ml_sa_a, if_neg h1]
  · show (pm_cl S' _ e).2 q j = _
    unfold pm_cl
    rw [ml_sa_a, ml_sa_a, if_neg (show ¬ q = 16 by omega), if_neg h3]
    rw [g5 q j h1 h2 h3]
    split <;> rfl
  · exact g6
  · exact g7
  · exact g8
  · exact g9
  · exact g10
