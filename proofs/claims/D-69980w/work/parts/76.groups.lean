/-! groups of the reference -/
set_option maxRecDepth 100000
theorem pg_more_ok {T : Nat → Int32} {n f0 : Nat} : ∀ f c S e c' S', pg_more T n f0 f c S = some (.inr (e, c', S')) → pg_I n c S → S.2 0 = T → e = 0 ∧ pg_I n c' S' ∧ c + 1 ≤ c' ∧ pg_same (pr_v S) S S' ∧ pr_v S ≤ pr_v S' := by
  intro f
  induction f with
  | zero => intro c S e c' S' h; cases h
  | succ f ih =>
    intro c S e c' S' h hI hT
    unfold pg_more at h
    split at h
    · rename_i g
      obtain ⟨t1, t2⟩ := lx_tk (T := T) (n := n) (c := c) (by rw [g]; decide)
      obtain ⟨e1, c1, S1, h1, h⟩ := pr_b_ok h
      obtain ⟨a1, a2, a3, a4, a5⟩ := pg_group_ok h1 ⟨hI.1, by have := hI.2.1; omega, t2, hI.2.2.2⟩ hT
      obtain ⟨b1, b2, b3, b4, b5⟩ := ih _ _ _ _ _ h a2 (by rw [a4.T]; exact hT)
      exact ⟨b1, b2, by omega, a4.tr b4 (by omega), by omega⟩
    · split at h
      · rename_i g
        obtain ⟨t1, t2⟩ := lx_tk (T := T) (n := n) (c := c) (by rw [g]; decide)
        have h' := Sum.inr.inj (Option.some.inj h)
        cases h'
        exact ⟨rfl, ⟨hI.1, by have := hI.2.1; omega, t2, hI.2.2.2⟩, t1, pg_same.rf, Nat.le_refl _⟩
      · cases h
theorem pg_groups_ok {T : Nat → Int32} {n f c e c' : Nat} {S S' : MS} (h : pg_groups T n f c S = some (.inr (e, c', S'))) (hI : pg_I n c S) (hT : S.2 0 = T) : e = 0 ∧ pg_I n c' S' ∧ c + 1 ≤ c' ∧ pg_same (pr_v S) S S' ∧ pr_v S < pr_v S' := by
  unfold pg_groups at h
  split at h
  · rename_i g
    obtain ⟨t1, t2⟩ := lx_tk (T := T) (n := n) (c := c) (by rw [g]; decide)
    obtain ⟨e1, c1, S1, h1, h⟩ := pr_b_ok h
    obtain ⟨a1, a2, a3, a4, a5⟩ := pg_group_ok h1 ⟨hI.1, by have := hI.2.1; omega, t2, hI.2.2.2⟩ hT
    obtain ⟨b1, b2, b3, b4, b5⟩ := pg_more_ok _ _ _ _ _ _ h a2 (by rw [a4.T]; exact hT)
    exact ⟨b1, b2, by omega, a4.tr b4 (by omega), by omega⟩
  · cases h
section
variable {z : MZ} {T : Nat → Int32} {n : Nat}
theorem X6_groups_W {f c D : Nat} {S σ : MS} {r : PE} (hw : ml_ws z) (hs : ps n c S σ) (hT : S.2 0 = T) (hI : pg_I n c S) (h : pg_groups T n f c S = some r) (hD : 9 ≤ D) : ml_C z mX6_groups D 1 [vR (some z.2.1)] σ (fun v σ' _ => pq_N0 n r v σ') (pq_X S r) := by
  have hpx : md_px S S := md_px.rf
  refine ml_C_of (by decide) rfl (Nat.le_of_ble_eq_true rfl) ?_
  unfold pg_groups at h
  refine mbgroups_0 (ps_must hs hT (Nat.le_refl 6)) (by show _ ≤ D; omega) (Nat.le_refl 1) (ml_kr0 fun σ ⟨hq, hs⟩ => ?_) (fun kd pl σ' ⟨g1, g2, g3, g4⟩ => by rw [if_neg g1] at h; exact pq_X.er h hpx g2 g3 g4)
  rw [if_pos hq] at h
  obtain ⟨t1, t2⟩ := lx_tk (T := T) (n := n) (c := c) (by rw [hq]; decide)
  obtain ⟨r1, h1, hx1, h⟩ := pr_b_some h
  have hI1 : pg_I n (lx_next T n c) S := ⟨hI.1, by have := hI.2.1; omega, t2, hI.2.2.2⟩
  refine mbgroups_6 (X6_group_W (vars := false) hw hs hT hI1 rfl h1 (Nat.le_refl 8)) (by show _ ≤ D; omega) (Nat.le_refl 1) (pq_kr0 fun c1 σ he1 hs => ?_) (pq_kx hx1 hpx)
  have h := h _ _ _ he1
  rw [he1] at h1
  obtain ⟨-, a2, a3, a4, a5⟩ := pg_group_ok h1 hI1 hT
  have hT1 := a4.T.trans hT
  have hpx1 := a4.px
  revert h hs hT1 hpx1 a2
  generalize lx_nz σ = S1
  intro hs h a2 hT1 hpx1
  have lp : ∀ g c1 S1 σ E, pg_more T n f g c1 S1 = some r → ps n c1 S1 σ → S1.2 0 = T → pg_I n c1 S1 → md_px S S1 → ml_V z mX6_groups (D, 1, (fun v σ' _ => pq_N0 n r v σ'), pq_X S r) 11 [(0, vR (some z.2.1))] [] σ E 1 := by
    intro g
    induction g with
    | zero => intro c1 S1 σ E h; cases h
    | succ g ih =>
      intro c1 S1 σ E h hs hT1 hI1 hpx1
      unfold pg_more at h
      refine mbgroups_11 (ps_peek hs hT1 (Nat.le_refl 2)) (by show _ ≤ D; omega) (Nat.zero_le _) (ml_krv fun σ ⟨hs, hS⟩ => ?_) ml_no
      refine mbgroups_15 (fun q => ?_) (fun q => ?_)
      · rw [if_neg q] at h
        refine mbgroups_32 (ps_must hs hT1 (Nat.le_refl 6)) (by show _ ≤ D; omega) (Nat.le_refl 1) (ml_kr0 fun σ ⟨hq, hs⟩ => ?_) (fun kd pl σ' ⟨g1, g2, g3, g4⟩ => by rw [if_neg g1] at h; exact pq_X.er h hpx1 g2 g3 g4)
        rw [if_pos hq] at h
        exact mbgroups_38 (fun G _ => pq_ret0 h hs)
      · rw [if_pos q] at h
        obtain ⟨t1, t2⟩ := lx_tk (T := T) (n := n) (c := c1) (by rw [q]; decide)
        obtain ⟨r1, h1, hx1, h⟩ := pr_b_some h
        have hI2 : pg_I n (lx_next T n c1) S1 := ⟨hI1.1, by have := hI1.2.1; omega, t2, hI1.2.2.2⟩
        refine mbgroups_20 (ps_take hs hT1 (Nat.le_refl 3)) (by show _ ≤ D; omega) (Nat.zero_le _) (ml_kr0 fun σ hs => ?_) ml_no
        refine mbgroups_24 (X6_group_W (vars := false) hw hs hT1 hI2 rfl h1 (Nat.le_refl 8)) (by show _ ≤ D; omega) (Nat.le_refl 1) (pq_kr0 fun c2 σ he1 hs => ?_) (pq_kx hx1 hpx1)
        have h := h _ _ _ he1
        rw [he1] at h1
        obtain ⟨-, a2, a3, a4, a5⟩ := pg_group_ok h1 hI2 hT1
        exact mbgroups_29 (ih _ _ _ _ h hs (a4.T.trans hT1) a2 (hpx1.tr a4.px))
  exact lp f c1 S1 σ _ h hs hT1 a2 hpx1
end
