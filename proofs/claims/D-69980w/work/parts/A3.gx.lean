/-! what the groups of a node's variables leave: bounds, counters, clocks -/
set_option maxRecDepth 100000
theorem md_ck.sub {σ : MS} {a b b' : Nat} (h : md_ck σ a b) (hb : b' ≤ b) : md_ck σ a b' := fun v h1 h2 => h v h1 (by omega)
theorem gx_dep {σ σ' : MS} {a b : Nat} (hc : md_ck σ a b) (h : ∀ j, a ≤ j → j < b → σ'.2 22 j = σ.2 22 j) : ∀ f v, a ≤ v → v < b → md_dep σ' a f v = md_dep σ a f v := by
  intro f
  induction f with
  | zero => intro v _ _; rfl
  | succ f ih =>
    intro v h1 h2
    rw [md_dep, md_dep, h v h1 h2]
    rcases hc v h1 h2 with q | ⟨k, k1, k2, k3⟩
    · rw [if_pos q, if_pos q]
    · rw [k2, nI_clamp (by omega), ih (a + k / 2) (by omega) (by omega)]
theorem md_dep_f {σ : MS} {a b : Nat} (hc : md_ck σ a b) : ∀ f f' v, a ≤ v → v < b → v < f → v < f' → md_dep σ a f v = md_dep σ a f' v := by
  intro f
  induction f with
  | zero => intro f' v _ _ h; omega
  | succ f ih =>
    intro f' v h1 h2 h3 h4
    cases f' with
    | zero => omega
    | succ f' =>
      rw [md_dep, md_dep]
      rcases hc v h1 h2 with q | ⟨k, k1, k2, k3⟩
      · rw [if_pos q, if_pos q]
      · rw [k2, nI_clamp (by omega), ih f' (a + k / 2) (by omega) (by omega) (by omega) (by omega)]
/-- a variable of the node: no value given yet; its clock is on an earlier bool, not too deep -/
def gx_v (S : MS) (v : Nat) : Prop := S.2 23 v = 0 ∧ (S.2 22 v = -1 ∨ ∃ w, w < 2 ^ 30 ∧ S.2 22 v = nI w ∧ pr_a S + w / 2 < v ∧ S.2 24 (pr_a S + w / 2) ≠ 0) ∧ md_dep S (pr_a S) (v + 1) v ≤ 8
def gx (S : MS) : Prop := pr_v S ≤ pr_a S + 99 ∧ ∀ v, pr_a S ≤ v → v < pr_v S → gx_v S v
/-- among a group: those from b on have no clock yet -/
def gxn (b : Nat) (S : MS) : Prop := pr_v S ≤ pr_a S + 99 ∧ (∀ v, pr_a S ≤ v → v < b → gx_v S v) ∧ ∀ v, b ≤ v → v < pr_v S → S.2 23 v = 0 ∧ S.2 22 v = -1
theorem gx_v.g {b v : Nat} {S S' : MS} (h : gx_v S v) (hs : pg_same b S S') (hv : v < b) (ha : pr_a S ≤ v) (hck : md_ck S (pr_a S) (pr_v S)) (hvv : v < pr_v S) : gx_v S' v := by
  obtain ⟨h1, h2, h3⟩ := h
  refine ⟨by rw [hs.2.2 23 v hv]; exact h1, ?_, ?_⟩
  · rw [hs.2.2 22 v hv, hs.a]
    rcases h2 with h2 | ⟨w, w1, w2, w3, w4⟩
    · exact Or.inl h2
    · exact Or.inr ⟨w, w1, w2, w3, by rw [hs.2.2 24 _ (by omega)]; exact w4⟩
  · rw [hs.a, gx_dep (b := v + 1) (hck.sub hvv) (fun j _ q => hs.2.2 22 j (by omega)) (v + 1) v ha (by omega)]
    exact h3
theorem pg_names_gx {T : Nat → Int32} {n b : Nat} : ∀ f c S e c' S', pg_names T n f c S = some (.inr (e, c', S')) → pg_I n c S → S.2 0 = T → b ≤ pr_v S → gxn b S → gxn b S' := by
  intro f
  induction f with
  | zero => intro c S e c' S' h; cases h
  | succ f ih =>
    intro c S e c' S' h hI hT hb hg
    unfold pg_names at h
    split at h
    · cases h
    rename_i g1
    have hc : c < n := lx_kind_lt (T := T) (by rw [(Decidable.not_not.1 g1).1]; decide)
    have hgt := lx_next_gt (T := T) hc
    split at h
    · cases h
    split at h
    · cases h
    rename_i g99
    have hI1 := pg_add_I hI hc hT
    obtain ⟨v1, v2, v3, v4, v5, v6, v7, v8, v9⟩ := hI.1.N
    have hs := pg_add_same (S := S) (v := pr_v S) (c := c) (e := lx_end T n c)
    have hv := pg_add_v (S := S) (v := pr_v S) (c := c) (e := lx_end T n c) (by have := hI.2.1; have := hI.2.2.1; have := hI.2.2.2; omega)
    have hg1 : gxn b (pg_add S (pr_v S) c (lx_end T n c)) := by
      refine ⟨?_, fun v q1 q2 => ?_, fun v q1 q2 => ?_⟩
      · rw [hv, hs.a]
        have := hg.1
        omega
      · rw [hs.a] at q1
        exact (hg.2.1 v q1 q2).g hs (by omega) q1 v9 (by omega)
      · rw [hv] at q2
        rcases Decidable.em (v = pr_v S) with e | e
        · rw [pg_add_2, pg_add_2, if_pos ⟨rfl, e⟩, if_neg (by omega), if_pos ⟨rfl, e⟩]
          exact ⟨rfl, rfl⟩
        · rw [hs.2.2 23 v (by omega), hs.2.2 22 v (by omega)]
          exact hg.2.2 v q1 (by omega)
    split at h
    · rename_i g2
      have hc2 : lx_next T n c < n := lx_kind_lt (T := T) (by rw [g2]; decide)
      have hgt2 := lx_next_gt (T := T) hc2
      have hI2 : pg_I n (lx_next T n (lx_next T n c)) (pg_add S (pr_v S) c (lx_end T n c)) := ⟨hI1.1, by have := hI1.2.1; omega, (lx_next_ge (T := T) hI1.2.2.1).2, hI1.2.2.2⟩
      exact ih _ _ _ _ _ h hI2 (by rw [hs.T]; exact hT) (by rw [hv]; omega) hg1
    · have h' := Sum.inr.inj (Option.some.inj h)
      cases h'
      exact hg1
theorem gxn.gx {b : Nat} {S : MS} (h : gxn b S) : gx S := by
  refine ⟨h.1, fun v h1 h2 => ?_⟩
  rcases Nat.lt_or_ge v b with q | q
  · exact h.2.1 v h1 q
  · obtain ⟨e1, e2⟩ := h.2.2 v q h2
    refine ⟨e1, Or.inl e2, ?_⟩
    rw [md_dep, if_pos e2]
    exact Nat.zero_le _
theorem pg_wh_gx {T : Nat → Int32} {n s b c e c' : Nat} {S S' : MS} (h : pg_wh T n s b c S = some (.inr (e, c', S'))) (hI : pg_I n c S) (hs : s < 2) (hab : pr_a S ≤ b) (hb : b ≤ pr_v S) (hg : gxn b S) : gx S' := by
  obtain ⟨hV, hvc, hcn, hn⟩ := hI
  obtain ⟨v1, v2, v3, v4, v5, v6, v7, v8, v9⟩ := hV.N
  unfold pg_wh at h
  split at h
  · cases h
  split at h
  · cases h
  rename_i g2
  split at h
  · cases h
  rename_i g8
  have h' := Sum.inr.inj (Option.some.inj h)
  cases h'
  have g3 : pg_fv n S b c < b := Decidable.byContradiction fun u => g2 (Or.inl u)
  have g4 : ¬ S.2 24 (pg_fv n S b c) = 0 := fun u => g2 (Or.inr u)
  have hle : pr_a S ≤ pg_fv n S b c := (lx_find_spec (P := lx_vs S n c) (b := b) b (pr_a S) (by omega) hab).1
  have hd : md_dep S (pr_a S) (pg_fv n S b c + 1) (pg_fv n S b c) < 8 := Decidable.not_not.1 g8
  generalize pg_fv n S b c = u at *
  have hsm := pg_fill_same (S := S) (k := 22) (a := b) (b := pr_v S) (x := nI (2 * (u - pr_a S) + s)) (Or.inl rfl)
  generalize hS' : pg_fill S 22 (nI (2 * (u - pr_a S) + s)) b (pr_v S) = S' at *
  have ev : pr_v S' = pr_v S := by rw [← hS']; rfl
  have e22 : ∀ v, b ≤ v → v < pr_v S → S'.2 22 v = nI (2 * (u - pr_a S) + s) := fun v q1 q2 => by
    rw [← hS']
    show (ml_saA S 22 _).2 22 v = _
    rw [ml_saA_a, if_pos rfl, if_pos ⟨q1, q2⟩]
  have eo : ∀ q v, q ≠ 22 → S'.2 q v = S.2 q v := fun q v hq => by
    rw [← hS']
    show (ml_saA S 22 _).2 q v = _
    rw [ml_saA_a, if_neg hq]
  refine ⟨by rw [ev, hsm.a]; exact hg.1, fun v q1 q2 => ?_⟩
  rw [hsm.a] at q1
  rw [ev] at q2
  rcases Nat.lt_or_ge v b with q | q
  · exact (hg.2.1 v q1 q).g hsm q q1 v9 q2
  · have hh : pr_a S + (2 * (u - pr_a S) + s) / 2 = u := by omega
    refine ⟨by rw [eo 23 v (by omega)]; exact (hg.2.2 v q q2).1, Or.inr ⟨_, by omega, e22 v q q2, ?_, ?_⟩, ?_⟩
    · rw [hsm.a, hh]
      omega
    · rw [hsm.a, hh, eo 24 u (by omega)]
      exact g4
    · rw [hsm.a, md_dep, e22 v q q2, if_neg (fun y => nI_pos (n := 2 * (u - pr_a S) + s) (by omega) (by rw [y]; decide)), nI_clamp (by omega), hh]
      rw [gx_dep (b := b) (v9.sub hb) (fun j _ y => hsm.2.2 22 j y) v u hle g3, md_dep_f (v9.sub hb) v (u + 1) u hle g3 (by omega) (by omega)]
      exact hd
theorem pg_group_gx {T : Nat → Int32} {n f c e c' : Nat} {vars : Bool} {S S' : MS} (h : pg_group T n f vars c S = some (.inr (e, c', S'))) (hI : pg_I n c S) (hT : S.2 0 = T) (hg : gx S) : gx S' := by
  obtain ⟨e1, c1, S1, h1, h⟩ := pr_b_ok h
  obtain ⟨-, a2, a3, a4, a5⟩ := pg_names_ok _ _ _ _ _ _ h1 hI hT
  have hle := hI.1.N.2.2.2.2.2.1
  have hn1 : gxn (pr_v S) S1 := pg_names_gx _ _ _ _ _ _ h1 hI hT (Nat.le_refl _) ⟨hg.1, fun v q1 q2 => hg.2 v q1 q2, fun v q1 q2 => by omega⟩
  obtain ⟨v1, v2, v3, v4, v5, v6, v7, v8, v9⟩ := a2.1.N
  have hf : ∀ x, gxn (pr_v S) (pg_fill S1 24 x (pr_v S) (pr_v S1)) := fun x => by
    have hs := pg_fill_same (S := S1) (k := 24) (a := pr_v S) (b := pr_v S1) (x := x) (Or.inr rfl)
    have eo : ∀ q v, q ≠ 24 → (pg_fill S1 24 x (pr_v S) (pr_v S1)).2 q v = S1.2 q v := fun q v hq => by
      show (ml_saA S1 24 _).2 q v = _
      rw [ml_saA_a, if_neg hq]
    refine ⟨hn1.1, fun v q1 q2 => (hn1.2.1 v q1 q2).g hs q2 q1 v9 (by omega), fun v q1 q2 => ?_⟩
    rw [eo 23 v (by omega), eo 22 v (by omega)]
    exact hn1.2.2 v q1 q2
  split at h
  · rename_i g1
    obtain ⟨t1, t2⟩ := lx_tk (T := T) (n := n) (c := c1) (by rw [g1]; decide)
    split at h
    · cases h
    rename_i g2
    have hk : lx_kind T n (lx_next T n c1) ≠ 0 := by
      rcases Decidable.em (lx_isW T n (lx_next T n c1) "bool") with q | q
      · rw [q.1]; decide
      · have q2 : lx_isW T n (lx_next T n c1) "int" := Decidable.byContradiction fun u => g2 ⟨q, u⟩
        rw [q2.1]; decide
    obtain ⟨t3, t4⟩ := lx_tk hk
    have fin : ∀ x s c2, c1 ≤ c2 → c2 ≤ n → s < 2 → pg_wh T n s (pr_v S) c2 (pg_fill S1 24 x (pr_v S) (pr_v S1)) = some (.inr (e, c', S')) → gx S' := by
      intro x s c2 q1 q2 q3 h
      exact pg_wh_gx h ⟨pg_fill_V a2.1, by have := a2.2.1; show pr_v S1 ≤ c2; omega, q2, a2.2.2.2⟩ q3 (by show pr_a S1 ≤ pr_v S; rw [a4.a]; exact hle) (by show pr_v S ≤ pr_v S1; omega) (hf x)
    split at h
    · rename_i g3
      obtain ⟨t5, t6⟩ := lx_tkw g3.2
      split at h
      · rename_i g4
        obtain ⟨t7, t8⟩ := lx_tkw g4
        exact fin _ 0 _ (by omega) t8 (by omega) h
      · exact fin _ 1 _ (by omega) t6 (by omega) h
    · have h' := Sum.inr.inj (Option.some.inj h)
      cases h'
      exact (hf _).gx
  · cases h
theorem pg_more_gx {T : Nat → Int32} {n f0 : Nat} : ∀ f c S e c' S', pg_more T n f0 f c S = some (.inr (e, c', S')) → pg_I n c S → S.2 0 = T → gx S → gx S' := by
  intro f
  induction f with
  | zero => intro c S e c' S' h; cases h
  | succ f ih =>
    intro c S e c' S' h hI hT hb
    unfold pg_more at h
    split at h
    · rename_i g
      obtain ⟨t1, t2⟩ := lx_tk (T := T) (n := n) (c := c) (by rw [g]; decide)
      obtain ⟨e1, c1, S1, h1, h⟩ := pr_b_ok h
      have hI2 : pg_I n (lx_next T n c) S := ⟨hI.1, by have := hI.2.1; omega, t2, hI.2.2.2⟩
      obtain ⟨a1, a2, a3, a4, a5⟩ := pg_group_ok h1 hI2 hT
      exact ih _ _ _ _ _ h a2 (by rw [a4.T]; exact hT) (pg_group_gx h1 hI2 hT hb)
    · split at h
      · have h' := Sum.inr.inj (Option.some.inj h)
        cases h'
        exact hb
      · cases h
theorem pg_groups_gx {T : Nat → Int32} {n f c e c' : Nat} {S S' : MS} (h : pg_groups T n f c S = some (.inr (e, c', S'))) (hI : pg_I n c S) (hT : S.2 0 = T) (hb : gx S) : gx S' := by
  unfold pg_groups at h
  split at h
  · rename_i g
    obtain ⟨t1, t2⟩ := lx_tk (T := T) (n := n) (c := c) (by rw [g]; decide)
    obtain ⟨e1, c1, S1, h1, h⟩ := pr_b_ok h
    have hI2 : pg_I n (lx_next T n c) S := ⟨hI.1, by have := hI.2.1; omega, t2, hI.2.2.2⟩
    obtain ⟨a1, a2, a3, a4, a5⟩ := pg_group_ok h1 hI2 hT
    exact pg_more_gx _ _ _ _ _ _ h a2 (by rw [a4.T]; exact hT) (pg_group_gx h1 hI2 hT hb)
  · cases h
theorem pg_vars_gx {T : Nat → Int32} {n f0 : Nat} : ∀ f c S e c' S', pg_vars T n f0 f c S = some (.inr (e, c', S')) → pg_I n c S → S.2 0 = T → gx S → gx S' := by
  intro f
  induction f with
  | zero => intro c S e c' S' h; cases h
  | succ f ih =>
    intro c S e c' S' h hI hT hb
    unfold pg_vars at h
    split at h
    · obtain ⟨e1, c1, S1, h1, h⟩ := pr_b_ok h
      obtain ⟨a1, a2, a3, a4, a5⟩ := pg_group_ok h1 hI hT
      split at h
      · rename_i g
        obtain ⟨t1, t2⟩ := lx_tk (T := T) (n := n) (c := c1) (by rw [g]; decide)
        exact ih _ _ _ _ _ h ⟨a2.1, by have := a2.2.1; omega, t2, a2.2.2.2⟩ (by rw [a4.T]; exact hT) (pg_group_gx h1 hI hT hb)
      · cases h
    · have h' := Sum.inr.inj (Option.some.inj h)
      cases h'
      exact hb
theorem nd_vr_gx {T : Nat → Int32} {n f c e c' : Nat} {S S' : MS} (h : nd_vr T n f c S = some (.inr (e, c', S'))) (hI : pg_I n c S) (hT : S.2 0 = T) (hb : gx S) : gx S' := by
  unfold nd_vr at h
  split at h
  · rename_i g
    obtain ⟨t1, t2⟩ := lx_tkw g
    obtain ⟨e1, c1, S1, h1, h⟩ := pr_b_ok h
    have hI2 : pg_I n (lx_next T n c) S := ⟨hI.1, by have := hI.2.1; omega, t2, hI.2.2.2⟩
    obtain ⟨a1, a2, a3, a4, a5⟩ := pg_group_ok h1 hI2 hT
    split at h
    · rename_i g
      obtain ⟨t3, t4⟩ := lx_tk (T := T) (n := n) (c := c1) (by rw [g]; decide)
      exact pg_vars_gx _ _ _ _ _ _ h ⟨a2.1, by have := a2.2.1; omega, t4, a2.2.2.2⟩ (by rw [a4.T]; exact hT) (pg_group_gx h1 hI2 hT hb)
    · cases h
  · have h' := Sum.inr.inj (Option.some.inj h)
    cases h'
    exact hb
theorem gx_dep2 {S S' : MS} {a : Nat} (h : S'.2 22 = S.2 22) : ∀ f v, md_dep S' a f v = md_dep S a f v := by
  intro f
  induction f with
  | zero => intro v; rfl
  | succ f ih => intro v; rw [md_dep, md_dep, h, ih]
theorem gx.cg {S S' : MS} (h : gx S) (h1 : S'.1 = S.1) (h12 : S'.2 12 = S.2 12) (h22 : S'.2 22 = S.2 22) (h23 : S'.2 23 = S.2 23) (h24 : S'.2 24 = S.2 24) : gx S' := by
  have ea : pr_a S' = pr_a S := by rw [pr_a, pr_a, pr_N, pr_N, h1, h12]
  have ev : pr_v S' = pr_v S := by rw [pr_v, pr_v, h1]
  unfold gx gx_v
  rw [ea, ev, h22, h23, h24]
  refine ⟨h.1, fun v q1 q2 => ?_⟩
  rw [gx_dep2 h22]
  exact h.2 v q1 q2
theorem gx_1 {S : MS} (h : gx S) : gx (nd_1 S) := h.cg rfl rfl rfl rfl rfl
theorem gx_2 {S : MS} (h : gx S) : gx (nd_2 S) := h.cg rfl rfl rfl rfl rfl
theorem nd_hd_gx {T : Nat → Int32} {n f c e c' : Nat} {S S' : MS} (h : nd_hd T n f c S = some (.inr (e, c', S'))) (hI : pg_I n c S) (hT : S.2 0 = T) (hab : pr_a S = pr_v S) : gx S' := by
  have h0 : gx S := ⟨by omega, fun v q1 q2 => by omega⟩
  unfold nd_hd at h
  obtain ⟨e1, c2, S2, h1, h⟩ := pr_b_ok h
  obtain ⟨a1, a2, a3, a4, a5⟩ := pg_groups_ok h1 hI hT
  have z2 := pg_groups_gx h1 hI hT h0
  split at h
  · rename_i g
    obtain ⟨t1, t2⟩ := lx_tkw g
    obtain ⟨e3, c3, S3, h3, h⟩ := pr_b_ok h
    have hI2 : pg_I n (lx_next T n c2) (nd_1 S2) := nd_1_I ⟨a2.1, by have := a2.2.1; omega, t2, a2.2.2.2⟩
    have hT2 : (nd_1 S2).2 0 = T := a4.T.trans hT
    obtain ⟨b1, b2, b3, b4, b5⟩ := pg_groups_ok h3 hI2 hT2
    have z3 := pg_groups_gx h3 hI2 hT2 (gx_1 z2)
    split at h
    · rename_i g
      obtain ⟨t3, t4⟩ := lx_tk (T := T) (n := n) (c := c3) (by rw [g]; decide)
      exact nd_vr_gx h (nd_2_I ⟨b2.1, by have := b2.2.1; omega, t4, b2.2.2.2⟩) ((b4.T).trans hT2) (gx_2 z3)
    · cases h
  · cases h
