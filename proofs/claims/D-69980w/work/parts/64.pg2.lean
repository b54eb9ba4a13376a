/-! groups of variables: what they leave; their walks -/
set_option maxRecDepth 100000
/-- what a group asks -/
def pg_I (n c : Nat) (S : MS) : Prop := pe_V n S ∧ pr_v S ≤ c ∧ c ≤ n ∧ n ≤ 5000
/-- nothing but variables from b on has changed -/
def pg_same (b : Nat) (S S' : MS) : Prop := (∀ k, k ≠ 19 → S'.1 k = S.1 k) ∧ (∀ k, ¬ (20 ≤ k ∧ k ≤ 24) → S'.2 k = S.2 k) ∧ ∀ k j, j < b → S'.2 k j = S.2 k j
theorem pg_same.rf {b : Nat} {S : MS} : pg_same b S S := ⟨fun _ _ => rfl, fun _ _ => rfl, fun _ _ _ => rfl⟩
theorem pg_same.tr {b b2 : Nat} {S S1 S2 : MS} (h : pg_same b S S1) (h2 : pg_same b2 S1 S2) (hb : b ≤ b2) : pg_same b S S2 := ⟨fun k hk => (h2.1 k hk).trans (h.1 k hk), fun k hk => (h2.2.1 k hk).trans (h.2.1 k hk), fun k j hj => (h2.2.2 k j (by omega)).trans (h.2.2 k j hj)⟩
theorem pg_same.px {b : Nat} {S S' : MS} (h : pg_same b S S') : md_px S S' := ⟨⟨fun k hk => h.1 k (by omega), by rw [h.2.1 12 (by omega)]⟩, fun k hk => h.2.1 k (by omega)⟩
theorem pg_same.N {b : Nat} {S S' : MS} (h : pg_same b S S') : pr_N S' = pr_N S := by rw [pr_N, pr_N, h.1 18 (by omega)]
theorem pg_same.a {b : Nat} {S S' : MS} (h : pg_same b S S') : pr_a S' = pr_a S := by rw [pr_a, pr_a, h.N, h.2.1 12 (by omega)]
theorem pg_same.T {b : Nat} {S S' : MS} (h : pg_same b S S') : S'.2 0 = S.2 0 := h.2.1 0 (by omega)
theorem pg_add_2 {S : MS} {v c e k j : Nat} : (pg_add S v c e).2 k j = if k = 23 ∧ j = v then 0 else if k = 22 ∧ j = v then -1 else if k = 21 ∧ j = v then nI (e - c) else if k = 20 ∧ j = v then nI c else S.2 k j := by
  unfold pg_add
  rw [ml_sf_a, ml_sa_a, ml_sa_a, ml_sa_a, ml_sa_a]
  repeat' split
  all_goals first | rfl | omega
theorem pg_add_same {S : MS} {v c e : Nat} : pg_same v S (pg_add S v c e) := by
  refine ⟨fun k hk => if_neg hk, fun k hk => funext fun j => ?_, fun k j hj => ?_⟩
  · rw [pg_add_2, if_neg (by omega), if_neg (by omega), if_neg (by omega), if_neg (by omega)]
  · rw [pg_add_2, if_neg (by omega), if_neg (by omega), if_neg (by omega), if_neg (by omega)]
theorem pg_add_v {S : MS} {v c e : Nat} (h : v < 6000) : pr_v (pg_add S v c e) = v + 1 := by
  show (nI (v + 1)).toNatClampNeg = v + 1
  exact nI_clamp (by omega)
theorem pg_add_I {S : MS} {T : Nat → Int32} {n c : Nat} (h : pg_I n c S) (hc : c < n) (hT : S.2 0 = T) : pg_I n (lx_next T n c) (pg_add S (pr_v S) c (lx_end T n c)) := by
  obtain ⟨hV, hvc, hcn, hn⟩ := h
  obtain ⟨v1, v2, v3, v4, v5, v6, v7, v8, v9⟩ := hV.N
  have hle := lx_end_le (T := T) hcn
  have hgt := lx_next_gt (T := T) hc
  have hng := lx_next_ge (T := T) hcn
  have hs := pg_add_same (S := S) (v := pr_v S) (c := c) (e := lx_end T n c)
  have hv := pg_add_v (S := S) (v := pr_v S) (c := c) (e := lx_end T n c) (by omega)
  refine ⟨⟨hV.1, pr_N S, pr_a S, pr_v S + 1, by rw [hs.1 18 (by omega)]; exact v1, v2, rfl, by omega, by rw [hs.2.1 12 (by omega)]; exact v5, by omega, ?_, ?_, ?_⟩, by rw [hv]; omega, hng.2, hn⟩
  · intro i hi
    rcases Decidable.em (i = pr_v S) with e | e
    · subst e
      refine ⟨c, lx_end T n c - c, ?_, ?_, by omega⟩
      · rw [pg_add_2, if_neg (by omega), if_neg (by omega), if_neg (by omega), if_pos ⟨rfl, rfl⟩]
      · rw [pg_add_2, if_neg (by omega), if_neg (by omega), if_pos ⟨rfl, rfl⟩]
    · rw [hs.2.2 20 i (by omega), hs.2.2 21 i (by omega)]
      exact v7 i (by omega)
  · intro i hi
    rw [hs.2.1 10 (by omega), hs.2.1 11 (by omega)]
    exact v8 i hi
  · intro v hv1 hv2
    rcases Decidable.em (v = pr_v S) with e | e
    · left
      rw [pg_add_2, if_neg (by omega), if_pos ⟨rfl, e⟩]
    · rw [hs.2.2 22 v (by omega)]
      exact v9 v hv1 (by omega)
theorem pg_names_ok {T : Nat → Int32} {n : Nat} : ∀ f c S e c' S', pg_names T n f c S = some (.inr (e, c', S')) → pg_I n c S → S.2 0 = T → e = 0 ∧ pg_I n c' S' ∧ c + 1 ≤ c' ∧ pg_same (pr_v S) S S' ∧ pr_v S < pr_v S' := by
  intro f
  induction f with
  | zero => intro c S e c' S' h; cases h
  | succ f ih =>
    intro c S e c' S' h hI hT
    unfold pg_names at h
    split at h
    · cases h
    rename_i g1
    have hc : c < n := lx_kind_lt (T := T) (by rw [(Decidable.not_not.1 g1).1]; decide)
    have hgt := lx_next_gt (T := T) hc
    split at h
    · cases h
    split at h
    · cases h
    have hI1 := pg_add_I hI hc hT
    have hs := pg_add_same (S := S) (v := pr_v S) (c := c) (e := lx_end T n c)
    have hv := pg_add_v (S := S) (v := pr_v S) (c := c) (e := lx_end T n c) (by have := hI.1.N.2.2.2.1; have := hI.2.1; have := hI.2.2.2; omega)
    split at h
    · rename_i g2
      have hc2 : lx_next T n c < n := lx_kind_lt (T := T) (by rw [g2]; decide)
      have hgt2 := lx_next_gt (T := T) hc2
      have hI2 : pg_I n (lx_next T n (lx_next T n c)) (pg_add S (pr_v S) c (lx_end T n c)) := ⟨hI1.1, by have := hI1.2.1; omega, (lx_next_ge (T := T) hI1.2.2.1).2, hI1.2.2.2⟩
      obtain ⟨a1, a2, a3, a4, a5⟩ := ih _ _ _ _ _ h hI2 (by rw [hs.T]; exact hT)
      exact ⟨a1, a2, by omega, hs.tr a4 (by rw [hv]; omega), by omega⟩
    · have h' := Sum.inr.inj (Option.some.inj h)
      cases h'
      exact ⟨rfl, hI1, by omega, hs, by rw [hv]; omega⟩
theorem pg_fill_same {S : MS} {k a b : Nat} {x : Int32} (hk : k = 22 ∨ k = 24) : pg_same a S (pg_fill S k x a b) := by
  refine ⟨fun _ _ => rfl, fun q hq => funext fun j => ?_, fun q j hj => ?_⟩
  · show (ml_saA S k _).2 q j = _
    rw [ml_saA_a, if_neg (by omega)]
  · show (ml_saA S k _).2 q j = _
    rw [ml_saA_a]
    split
    · rename_i e
      rw [if_neg (by omega), e]
    · rfl
theorem pg_fill_V {S : MS} {n a b : Nat} {x : Int32} (h : pe_V n S) : pe_V n (pg_fill S 24 x a b) := by
  obtain ⟨hn, N, a', b', h1, h2, h3, h4, h5, h6, h7, h8, h9⟩ := h
  exact ⟨hn, N, a', b', h1, h2, h3, h4, h5, h6, h7, h8, h9⟩
/-- a clock for the variables of a group -/
theorem pg_wh_ok {T : Nat → Int32} {n s b c e c' : Nat} {S S' : MS} (h : pg_wh T n s b c S = some (.inr (e, c', S'))) (hI : pg_I n c S) (hs : s < 2) (hab : pr_a S ≤ b) (hb : b ≤ pr_v S) : e = 0 ∧ pg_I n c' S' ∧ c + 1 ≤ c' ∧ pg_same b S S' ∧ pr_v S' = pr_v S := by
  obtain ⟨hV, hvc, hcn, hn⟩ := hI
  obtain ⟨v1, v2, v3, v4, v5, v6, v7, v8, v9⟩ := hV.N
  unfold pg_wh at h
  split at h
  · cases h
  rename_i g1
  split at h
  · cases h
  rename_i g2
  split at h
  · cases h
  have h' := Sum.inr.inj (Option.some.inj h)
  cases h'
  obtain ⟨t1, t2⟩ := lx_tkn (Decidable.not_not.1 g1)
  have g3 : pg_fv n S b c < b := Decidable.byContradiction fun u => g2 (Or.inl u)
  have hle : pr_a S ≤ pg_fv n S b c := (lx_find_spec (P := lx_vs S n c) (b := b) b (pr_a S) (by omega) hab).1
  have hsm := pg_fill_same (S := S) (k := 22) (a := b) (b := pr_v S) (x := nI (2 * (pg_fv n S b c - pr_a S) + s)) (Or.inl rfl)
  refine ⟨rfl, ⟨⟨hV.1, pr_N S, pr_a S, pr_v S, v1, v2, v3, v4, ?_, v6, ?_, ?_, ?_⟩, (by show pr_v S ≤ lx_next T n c; omega), t2, hn⟩, t1, hsm, rfl⟩
  · rw [hsm.2.1 12 (by omega)]; exact v5
  · intro i hi
    have e1 : (pg_fill S 22 (nI (2 * (pg_fv n S b c - pr_a S) + s)) b (pr_v S)).2 20 i = S.2 20 i := by
      show (ml_saA S 22 _).2 20 i = _
      rw [ml_saA_a, if_neg (by omega)]
    have e2 : (pg_fill S 22 (nI (2 * (pg_fv n S b c - pr_a S) + s)) b (pr_v S)).2 21 i = S.2 21 i := by
      show (ml_saA S 22 _).2 21 i = _
      rw [ml_saA_a, if_neg (by omega)]
    rw [e1, e2]
    exact v7 i hi
  · intro i hi
    rw [hsm.2.1 10 (by omega), hsm.2.1 11 (by omega)]
    exact v8 i hi
  · intro v hv1 hv2
    have e1 : (pg_fill S 22 (nI (2 * (pg_fv n S b c - pr_a S) + s)) b (pr_v S)).2 22 v = if b ≤ v ∧ v < pr_v S then nI (2 * (pg_fv n S b c - pr_a S) + s) else S.2 22 v := by
      show (ml_saA S 22 _).2 22 v = _
      rw [ml_saA_a, if_pos rfl]
    rw [e1]
    split
    · refine Or.inr ⟨_, by omega, rfl, ?_⟩
      omega
    · exact v9 v hv1 hv2
theorem pg_group_ok {T : Nat → Int32} {n f c e c' : Nat} {vars : Bool} {S S' : MS} (h : pg_group T n f vars c S = some (.inr (e, c', S'))) (hI : pg_I n c S) (hT : S.2 0 = T) : e = 0 ∧ pg_I n c' S' ∧ c + 1 ≤ c' ∧ pg_same (pr_v S) S S' ∧ pr_v S < pr_v S' := by
  obtain ⟨e1, c1, S1, h1, h⟩ := pr_b_ok h
  obtain ⟨-, a2, a3, a4, a5⟩ := pg_names_ok _ _ _ _ _ _ h1 hI hT
  have hle := hI.1.N.2.2.2.2.2.1
  split at h
  · rename_i g1
    obtain ⟨t1, t2⟩ := lx_tk (T := T) (n := n) (c := c1) (by rw [g1]; decide)
    split at h
    · cases h
    rename_i g2
    have hk : lx_kind T n (lx_next T n c1) ≠ 0 := by
      rcases Decidable.em (lx_isW T n (lx_next T n c1) "bool") with q | q
      · rw [q.1]; decide
      · have q2 : lx_isW T n (lx_next T n c1) "int" := Decidable.byContradiction fun u => g2 ⟨q, u⟩
        rw [q2.1]; decide
    obtain ⟨t3, t4⟩ := lx_tk hk
    have hf := pg_fill_same (S := S1) (k := 24) (a := pr_v S) (b := pr_v S1) (x := if lx_isW T n (lx_next T n c1) "bool" then 1 else 0) (Or.inr rfl)
    have hIf : ∀ c2, c1 ≤ c2 → c2 ≤ n → pg_I n c2 (pg_fill S1 24 (if lx_isW T n (lx_next T n c1) "bool" then 1 else 0) (pr_v S) (pr_v S1)) := fun c2 h1 h2 => ⟨pg_fill_V a2.1, by have := a2.2.1; show pr_v S1 ≤ c2; omega, h2, a2.2.2.2⟩
    have fin : ∀ s c2, c1 ≤ c2 → c2 ≤ n → s < 2 → pg_wh T n s (pr_v S) c2 (pg_fill S1 24 (if lx_isW T n (lx_next T n c1) "bool" then 1 else 0) (pr_v S) (pr_v S1)) = some (.inr (e, c', S')) → e = 0 ∧ pg_I n c' S' ∧ c + 1 ≤ c' ∧ pg_same (pr_v S) S S' ∧ pr_v S < pr_v S' := by
      intro s c2 q1 q2 q3 h
      obtain ⟨b1, b2, b3, b4, b5⟩ := pg_wh_ok h (hIf c2 q1 q2) q3 (by rw [hf.a, a4.a]; exact hle) (by show pr_v S ≤ pr_v S1; omega)
      exact ⟨b1, b2, by omega, (a4.tr hf (Nat.le_refl _)).tr b4 (Nat.le_refl _), by rw [b5]; exact a5⟩
    split at h
    · rename_i g3
      obtain ⟨t5, t6⟩ := lx_tkw g3.2
      split at h
      · rename_i g4
        obtain ⟨t7, t8⟩ := lx_tkw g4
        exact fin 0 _ (by omega) t8 (by omega) h
      · exact fin 1 _ (by omega) t6 (by omega) h
    · have h' := Sum.inr.inj (Option.some.inj h)
      cases h'
      exact ⟨rfl, hIf _ (by omega) t4, by omega, a4.tr hf (Nat.le_refl _), a5⟩
  · cases h
/-! the walks -/
def pq_N0 (n : Nat) (r : PE) (v : Option WV) (σ' : MS) : Prop := ∃ c', r = .inr (0, c', lx_nz σ') ∧ v = none ∧ lx_I n c' σ'
theorem pq_kr0 {z : MZ} {M : MI} {jm : MJ} {pc rr n : Nat} {lv : List (Nat × WV)} {st : List WV} {r1 : PE} (k : ∀ c1 σ', r1 = .inr (0, c1, lx_nz σ') → ps n c1 (lx_nz σ') σ' → ml_V z M jm pc lv st σ' (fun _ => True) rr) : ∀ v σ', ml_V z M jm pc lv (v.toList ++ st) σ' (fun _ => pq_N0 n r1 v σ') rr := fun v σ' G g1 g2 g3 => by
  obtain ⟨c', he, rfl, hI⟩ := g3
  exact k c' σ' he ⟨hI, rfl⟩ G g1 g2 trivial
theorem pq_ret0 {n c : Nat} {S σ : MS} {r : PE} (h : pr_ok 0 c S = some r) (hs : ps n c S σ) : pq_N0 n r none σ := ⟨c, by rw [hs.2]; exact (Option.some.inj h).symm, rfl, hs.1⟩
theorem ps_sf {n c k : Nat} {S σ : MS} {v : Int32} (h : ps n c S σ) (hk : 9 < k) : ps n c (ml_sf S k v) (ml_sf σ k v) :=
  ⟨h.1.cg (fun q hq => by rw [ml_sf_f, if_neg (by omega)]) rfl, by rw [lx_nz_sf (by omega), h.2]⟩
theorem ps_saA {n c k : Nat} {S σ : MS} {f : Nat → Int32} (h : ps n c S σ) (hk : k ≠ 0) : ps n c (ml_saA S k f) (ml_saA σ k f) :=
  ⟨h.1.cg (fun _ _ => rfl) (funext fun i => by rw [ml_saA_a, if_neg (Ne.symm hk)]), by rw [← h.2]; rfl⟩
theorem ps_fill {n c k a b : Nat} {S σ : MS} {x : Int32} (h : ps n c S σ) (hk : k ≠ 0) : ps n c (pg_fill S k x a b) (pg_fill σ k x a b) := by
  have := ps_saA (k := k) (f := fun j => if a ≤ j ∧ j < b then x else S.2 k j) h hk
  unfold pg_fill
  rw [show σ.2 k = S.2 k by rw [h.s2]]
  exact this
theorem ps_add {n c v q e : Nat} {S σ : MS} (h : ps n c S σ) : ps n c (pg_add S v q e) (pg_add σ v q e) :=
  ps_sf (ps_sa (ps_sa (ps_sa (ps_sa h (by omega)) (by omega)) (by omega)) (by omega)) (by omega)
