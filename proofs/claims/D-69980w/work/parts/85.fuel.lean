/-! with fuel enough a node is read to its end -/
set_option maxRecDepth 100000
theorem pr_b_nn {x : Option PE} {k : Nat → Nat → MS → Option PE} (h : x ≠ none) (h2 : ∀ e c S, x = some (.inr (e, c, S)) → k e c S ≠ none) : pr_b x k ≠ none := by
  match x, h, h2 with
  | some (.inl e), _, _ => exact fun u => by cases u
  | some (.inr (e, c, S)), _, h2 => exact h2 e c S rfl
theorem nn_er {k : Int32} {c : Nat} : pr_er k c ≠ none := fun u => by cases u
theorem nn_ok {e c : Nat} {S : MS} : pr_ok e c S ≠ none := fun u => by cases u
section
variable {T : Nat → Int32} {n : Nat}
theorem pg_names_nn : ∀ f c S, n - c < f → pg_names T n f c S ≠ none := by
  intro f
  induction f with
  | zero => intro c S h; omega
  | succ f ih =>
    intro c S h
    unfold pg_names
    split
    · exact nn_er
    rename_i g1
    obtain ⟨t1, t2⟩ := lx_tkn (Decidable.not_not.1 g1)
    split
    · exact nn_er
    split
    · exact nn_er
    split
    · rename_i g2
      obtain ⟨t3, t4⟩ := lx_tk (T := T) (n := n) (c := lx_next T n c) (by rw [g2]; decide)
      exact ih _ _ (by omega)
    · exact nn_ok
theorem pg_wh_nn {s b c : Nat} {S : MS} : pg_wh T n s b c S ≠ none := by
  unfold pg_wh
  split
  · exact nn_er
  split
  · exact nn_er
  split
  · exact nn_er
  · exact nn_ok
theorem pg_group_nn {f c : Nat} {v : Bool} {S : MS} (h : n < f) : pg_group T n f v c S ≠ none := by
  unfold pg_group
  refine pr_b_nn (pg_names_nn f c S (by omega)) (fun e c1 S1 _ => ?_)
  split
  · split
    · exact nn_er
    split
    · split
      · exact pg_wh_nn
      · exact pg_wh_nn
    · exact nn_ok
  · exact nn_er
theorem pg_more_nn {f0 : Nat} (h0 : n < f0) : ∀ f c S, n - c < f → pg_I n c S → S.2 0 = T → pg_more T n f0 f c S ≠ none := by
  intro f
  induction f with
  | zero => intro c S h; omega
  | succ f ih =>
    intro c S h hI hT
    unfold pg_more
    split
    · rename_i g
      obtain ⟨t1, t2⟩ := lx_tk (T := T) (n := n) (c := c) (by rw [g]; decide)
      refine pr_b_nn (pg_group_nn h0) (fun e c1 S1 h1 => ?_)
      obtain ⟨a1, a2, a3, a4, a5⟩ := pg_group_ok h1 ⟨hI.1, by have := hI.2.1; omega, t2, hI.2.2.2⟩ hT
      exact ih _ _ (by omega) a2 (a4.T.trans hT)
    · split
      · exact nn_ok
      · exact nn_er
theorem pg_groups_nn {f c : Nat} {S : MS} (h0 : n < f) (hI : pg_I n c S) (hT : S.2 0 = T) : pg_groups T n f c S ≠ none := by
  unfold pg_groups
  split
  · rename_i g
    obtain ⟨t1, t2⟩ := lx_tk (T := T) (n := n) (c := c) (by rw [g]; decide)
    refine pr_b_nn (pg_group_nn h0) (fun e c1 S1 h1 => ?_)
    obtain ⟨a1, a2, a3, a4, a5⟩ := pg_group_ok h1 ⟨hI.1, by have := hI.2.1; omega, t2, hI.2.2.2⟩ hT
    exact pg_more_nn h0 _ _ _ (by omega) a2 (a4.T.trans hT)
  · exact nn_er
theorem pg_vars_nn {f0 : Nat} (h0 : n < f0) : ∀ f c S, n - c < f → pg_I n c S → S.2 0 = T → pg_vars T n f0 f c S ≠ none := by
  intro f
  induction f with
  | zero => intro c S h; omega
  | succ f ih =>
    intro c S h hI hT
    unfold pg_vars
    split
    · refine pr_b_nn (pg_group_nn h0) (fun e c1 S1 h1 => ?_)
      obtain ⟨a1, a2, a3, a4, a5⟩ := pg_group_ok h1 hI hT
      split
      · rename_i g
        obtain ⟨t1, t2⟩ := lx_tk (T := T) (n := n) (c := c1) (by rw [g]; decide)
        exact ih _ _ (by omega) ⟨a2.1, by have := a2.2.1; omega, t2, a2.2.2.2⟩ (a4.T.trans hT)
      · exact nn_er
    · exact nn_ok
theorem nd_vr_nn {f c : Nat} {S : MS} (h0 : n < f) (hI : pg_I n c S) (hT : S.2 0 = T) : nd_vr T n f c S ≠ none := by
  unfold nd_vr
  split
  · rename_i g
    obtain ⟨t1, t2⟩ := lx_tkw g
    refine pr_b_nn (pg_group_nn h0) (fun e c1 S1 h1 => ?_)
    obtain ⟨a1, a2, a3, a4, a5⟩ := pg_group_ok h1 ⟨hI.1, by have := hI.2.1; omega, t2, hI.2.2.2⟩ hT
    split
    · rename_i g
      obtain ⟨t3, t4⟩ := lx_tk (T := T) (n := n) (c := c1) (by rw [g]; decide)
      exact pg_vars_nn h0 _ _ _ (by omega) ⟨a2.1, by have := a2.2.1; omega, t4, a2.2.2.2⟩ (a4.T.trans hT)
    · exact nn_er
  · exact nn_ok
theorem nd_hd_nn {f c : Nat} {S : MS} (h0 : n < f) (hI : pg_I n c S) (hT : S.2 0 = T) : nd_hd T n f c S ≠ none := by
  unfold nd_hd
  refine pr_b_nn (pg_groups_nn h0 hI hT) (fun e c2 S2 h1 => ?_)
  obtain ⟨a1, a2, a3, a4, a5⟩ := pg_groups_ok h1 hI hT
  split
  · rename_i g
    obtain ⟨t1, t2⟩ := lx_tkw g
    have hI2 : pg_I n (lx_next T n c2) (nd_1 S2) := nd_1_I ⟨a2.1, by have := a2.2.1; omega, t2, a2.2.2.2⟩
    have hT2 : (nd_1 S2).2 0 = T := a4.T.trans hT
    refine pr_b_nn (pg_groups_nn h0 hI2 hT2) (fun e c3 S3 h3 => ?_)
    obtain ⟨b1, b2, b3, b4, b5⟩ := pg_groups_ok h3 hI2 hT2
    split
    · rename_i g
      obtain ⟨t3, t4⟩ := lx_tk (T := T) (n := n) (c := c3) (by rw [g]; decide)
      exact nd_vr_nn h0 (nd_2_I ⟨b2.1, by have := b2.2.1; omega, t4, b2.2.2.2⟩) (b4.T.trans hT2)
    · exact nn_er
  · exact nn_er
theorem pe_left_nn {c : Nat} {S : MS} : pe_left T n c S ≠ none := by
  unfold pe_left
  refine pr_b_nn ?_ (fun e c1 S1 _ => nn_ok)
  unfold pg_left
  split
  · exact nn_er
  split
  · exact nn_ok
  · exact nn_er
theorem pe_lefts_nn : ∀ f c S, n - c < f → pn_E n c S → pe_lefts T n f c S ≠ none := by
  intro f
  induction f with
  | zero => intro c S h; omega
  | succ f ih =>
    intro c S h hE
    unfold pe_lefts
    split
    · rename_i g
      obtain ⟨t1, t2⟩ := lx_tk (T := T) (n := n) (c := c) (by rw [g]; decide)
      refine pr_b_nn pe_left_nn (fun e c1 S1 h1 => ?_)
      have hE1 : pn_E n (lx_next T n c) S := by
        obtain ⟨hV, b1, b2, b3, b4, b5, b6, b7, b8, b9⟩ := hE
        exact ⟨hV, t2, b2, b3, by omega, b5, by omega, b7, by omega, b9⟩
      obtain ⟨-, q1, q2, hR⟩ := pe_left_R h1 hE1
      exact ih _ _ (by omega) hR.1
    · exact nn_ok
theorem pn_pp {f c m a : Nat} {S : MS} (hE : pn_E n c S) (hm : m = 0 ∨ m = 14) (ha : m = 14 → a < pr_N S) (h0 : 20 * n + 20 ≤ f) : pp T n f m 0 a [] c S ≠ none := by
  obtain ⟨hV, b1, b2, b3, b4, b5⟩ := hE
  exact (pp_fuel f).main (by omega) b3 b4 b1 hV ha (by omega)
theorem pe_eq_nn {f c : Nat} {S : MS} (hE : pn_E n c S) (h0 : 20 * n + 20 ≤ f) : pe_eq T n f c S ≠ none := by
  unfold pe_eq
  have hE0 := pe_0_E hE
  refine pr_b_nn ?_ (fun e c1 S1 _ => ?_)
  · split
    · rename_i g
      obtain ⟨t1, t2⟩ := lx_tk (T := T) (n := n) (c := c) (by rw [g]; decide)
      unfold pe_many
      refine pr_b_nn pe_left_nn (fun e c2 S2 h3 => ?_)
      have hE1 : pn_E n (lx_next T n c) (pe_0 S (pr_k S) c) := by
        obtain ⟨hV, b1, b2, b3, b4, b5, b6, b7, b8, b9⟩ := hE0
        exact ⟨hV, t2, b2, b3, by omega, b5, by omega, b7, by omega, b9⟩
      obtain ⟨-, q1, q2, hR⟩ := pe_left_R h3 hE1
      refine pr_b_nn (pe_lefts_nn f _ _ (by omega) hR.1) (fun e3 c3 S3 h4 => ?_)
      obtain ⟨-, hR2⟩ := pe_lefts_R _ _ _ _ _ _ h4 hR.1
      split
      · rename_i g4
        obtain ⟨t3, t4⟩ := lx_tk (T := T) (n := n) (c := c3) (by rw [g4]; decide)
        split
        · rename_i g5
          obtain ⟨t5, t6⟩ := lx_tk (T := T) (n := n) (c := lx_next T n c3) (by rw [g5]; decide)
          split
          · exact nn_er
          rename_i g6
          obtain ⟨t7, t8⟩ := lx_tkn (Decidable.not_not.1 g6)
          split
          · rename_i g7
            refine pr_b_nn (pn_pp ?_ (Or.inr rfl) (fun _ => g7) h0) (fun _ _ _ _ => nn_ok)
            obtain ⟨hV, b1, b2, b3, b4, b5, b6, b7, b8, b9⟩ := hR2.1
            exact ⟨hV, t8, b2, b3, by omega, b5, by omega, b7, by omega, b9⟩
          · exact nn_er
        · exact nn_er
      · exact nn_er
    · unfold pe_one
      refine pr_b_nn pe_left_nn (fun e c2 S2 h3 => ?_)
      obtain ⟨-, q1, q2, hR⟩ := pe_left_R h3 hE0
      split
      · rename_i g4
        obtain ⟨t3, t4⟩ := lx_tk (T := T) (n := n) (c := c2) (by rw [g4]; decide)
        refine pr_b_nn (pn_pp ?_ (Or.inl rfl) (fun u => absurd u (by omega)) h0) (fun _ _ _ _ => nn_ok)
        obtain ⟨hV, b1, b2, b3, b4, b5, b6, b7, b8, b9⟩ := hR.1
        exact ⟨hV, t4, b2, b3, by omega, b5, by omega, b7, by omega, b9⟩
      · exact nn_er
  · unfold pe_end
    split
    · exact nn_ok
    · exact nn_er
theorem pe_eqs_nn {f0 : Nat} (h0 : 20 * n + 20 ≤ f0) : ∀ f c S, n - c < f → pn_E n c S → S.2 26 (pr_k S) = nI (pr_l S) → pe_eqs T n f0 f c S ≠ none := by
  intro f
  induction f with
  | zero => intro c S h; omega
  | succ f ih =>
    intro c S h hE hB
    unfold pe_eqs
    refine pr_b_nn (pe_eq_nn hE h0) (fun e c1 S1 h1 => ?_)
    obtain ⟨a1, a2, a3, a4, a5, -⟩ := pe_eq_ok h1 hE hB
    split
    · exact nn_ok
    · have := a2.2.1
      exact ih _ _ (by omega) a2 a3
theorem nd_en_nn {k c : Nat} {S : MS} : nd_en T n k c S ≠ none := by
  unfold nd_en
  split
  · split
    · exact nn_er
    · exact nn_ok
  · exact nn_er
theorem nd_nn {f c : Nat} {S : MS} (hI : nd_I n c S) (hT : S.2 0 = T) (h0 : 20 * n + 20 ≤ f) : nd T n f c S ≠ none := by
  unfold nd
  split
  · rename_i g1
    obtain ⟨t1, t2⟩ := lx_tkw g1
    split
    · exact nn_er
    generalize lx_next T n c = c1 at *
    split
    · split
      · exact nn_er
      obtain ⟨hI0, ha0, px0⟩ := nd_A (T := T) hI (Nat.le_of_succ_le t1) t2
      refine pr_b_nn (nd_hd_nn (by omega) hI0 ((px0.2 0 (Or.inl rfl)).trans hT)) (fun e5 c5 S5 h5 => ?_)
      unfold nd_bd
      split
      · rename_i g3
        obtain ⟨q1, q2, q3, q4, hM⟩ := nd_B hI hT (Nat.le_of_succ_le t1) t2 h5 g3
        obtain ⟨hE3, hJ3, hB3, -⟩ := hM
        exact pr_b_nn (pe_eqs_nn h0 f _ _ (by omega) hE3 hB3) (fun _ _ _ _ => nd_en_nn)
      · exact nn_er
    · exact nn_er
  · exact nn_er
end
