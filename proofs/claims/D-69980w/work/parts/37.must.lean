/-! cant, must, nest of the reference -/
set_option maxRecDepth 100000
theorem lx_sign_0 {b : Int32} : ¬ 299 < lx_sign b 0 := by
  unfold lx_sign
  split
  · rename_i h
    rcases h with h | h | h | h | h | h | h <;> subst h <;> decide
  · split
    · rename_i h
      subst h
      decide
    · split
      · rename_i h
        subst h
        decide
      · split
        · rename_i h
          subst h
          decide
        · split
          · rename_i h
            subst h
            decide
          · decide
theorem lx_end_le {T : Nat → Int32} {n c : Nat} (hc : c ≤ n) : c ≤ lx_end T n c ∧ lx_end T n c ≤ n := by
  unfold lx_end
  split
  · exact ⟨Nat.le_refl c, hc⟩
  · split
    · exact lx_wend_ge n c (by omega) hc
    · split
      · exact lx_dend_ge n c (by omega) hc
      · split
        · rename_i h
          rcases Decidable.em (c + 1 < n) with h1 | h1
          · omega
          · rw [lx_at, if_neg h1] at h
            exact absurd h lx_sign_0
        · omega
/-- a token that isn't the end has a place -/
theorem lx_end_gt {T : Nat → Int32} {n c : Nat} (hc : c < n) : c < lx_end T n c := by
  unfold lx_end
  rw [if_neg (by omega)]
  split
  · rename_i h
    rw [lx_wend_1 ⟨hc, Or.inl h⟩]
    exact (lx_wend_ge n (c + 1) (by omega) hc).1
  · split
    · rename_i h
      rw [lx_dend_1 ⟨hc, h⟩]
      exact (lx_dend_ge n (c + 1) (by omega) hc).1
    · split <;> omega
/-- where the token behind stands -/
def lx_next (T : Nat → Int32) (n c : Nat) : Nat := lx_skip T n (lx_end T n c)
theorem lx_next_ge {T : Nat → Int32} {n c : Nat} (hc : c ≤ n) : c ≤ lx_next T n c ∧ lx_next T n c ≤ n := by
  have h := lx_end_le (T := T) hc
  have h1 := lx_skip_ge (T := T) (n := n) n (lx_end T n c) (by omega) h.2
  unfold lx_next
  omega
theorem lx_next_gt {T : Nat → Int32} {n c : Nat} (hc : c < n) : c < lx_next T n c := by
  have h := lx_end_le (T := T) (Nat.le_of_lt hc)
  have h1 := lx_skip_ge (T := T) (n := n) n (lx_end T n c) (by omega) h.2
  have h2 := lx_end_gt (T := T) hc
  unfold lx_next
  omega
theorem lx_I.S {n c : Nat} {σ σ' : MS} (h : lx_I n c σ) (h1 : lx_nz σ' = lx_nz σ) (h2 : lx_S n c σ') : lx_I n c σ' :=
  ⟨h.1, by rw [lx_nz_1 h1 1 (by omega)]; exact h.2.1, Or.inr h2⟩
theorem lx_I.le {n c : Nat} {σ : MS} (h : lx_I n c σ) : c ≤ n := by
  rcases h.2.2 with ⟨-, p, hp, -, hc⟩ | h
  · rw [hc]
    exact (lx_skip_ge n p (by omega) hp).2
  · exact h.1
theorem lx_I.next {n c : Nat} {σ σ' : MS} (h : lx_I n c σ) (h1 : lx_nz σ' = lx_nz σ) (h2 : σ'.1 9 = 0) (h3 : σ'.1 5 = nI (lx_end (σ.2 0) n c)) : lx_I n (lx_next (σ.2 0) n c) σ' :=
  ⟨h.1, by rw [lx_nz_1 h1 1 (by omega)]; exact h.2.1, Or.inl ⟨h2, _, (lx_end_le h.le).2, h3, by rw [lx_nz_2 h1]; rfl⟩⟩
theorem X6_cant_C {z : MZ} {d n c : Nat} {σ : MS} (h : lx_I n c σ) (hd : 5 ≤ d) : ml_D z mX6_cant d 1 [vR (some z.2.1)] σ (fun v σ' G => (lx_nz σ' = lx_nz σ ∧ lx_S n c σ') ∧ ∃ q, v = some (vR (some q)) ∧ hp_kd G q = 4 ∧ hp_i G q 6 = 1 ∧ hp_i G q 7 = nI c) (fun _ _ _ => False) := by
  intro G g1 g2
  refine wk_C_of (by decide) rfl (Nat.le_of_ble_eq_true rfl) ?_
  refine blX6_cant_0 g1.1.1 (X6_peek_C h (Nat.le_refl 2) G g1 g2) (Nat.le_trans (by decide) hd) (Nat.zero_le _) ?_ (fun _ _ _ q => absurd q.2.2 (fun ⟨_, _, _, q⟩ => q))
  rintro v G' ⟨σ', g3, g4, rfl, h1, h2⟩
  refine blX6_cant_4 (Nat.le_refl 1) (fun q hq hA => ?_)
  have hno := g3.fresh hq
  have g5 := g3.other (a := q) hno hp_nw_ne (G' := hp_nw G' q 4 0)
  refine blX6_cant_8 g5.1.1 rfl (X23_init_C (Nat.le_refl 4) _ (by rw [hp_kd_nw, if_pos rfl]) hA) hd (Nat.zero_le _) ?_ (fun _ _ _ q => absurd q id)
  rintro v G9 ⟨rfl, y1, y2, y3, y4⟩
  refine blX6_cant_17 ⟨σ', g5.other hno y4, (g4.1.step (Or.inr hq) hp_nw_ne).step2 ?_ y4, ⟨h1, h2⟩, q, rfl, y1, y2, ?_⟩
  · exact Decidable.byContradiction fun z0 => z0 (by rw [← (g4.1 q z0 hno).1]; exact hq)
  · rw [y3, g5.2.2.2.1 7, h2.2.2.2.1]
theorem X6_must_C {z : MZ} {d n c : Nat} {x : Int32} {σ : MS} (h : lx_I n c σ) (hd : 6 ≤ d) : ml_C z mX6_must d 1 [vR (some z.2.1), vI x] σ (fun v σ' _ => v = none ∧ lx_kind (σ.2 0) n c = x ∧ lx_nz σ' = lx_nz σ ∧ lx_I n (lx_next (σ.2 0) n c) σ') (fun kd pl σ' => lx_kind (σ.2 0) n c ≠ x ∧ kd = 1 ∧ pl = nI c ∧ lx_nz σ' = lx_nz σ) := by
  refine ml_C_of (by decide) rfl (Nat.le_of_ble_eq_true rfl) ?_
  refine mbmust_0 (X6_peek_C h (Nat.le_refl 2)) (Nat.le_trans (by decide) hd) (Nat.zero_le _) (ml_kr fun v σ' g => ?_) ml_no
  obtain ⟨rfl, h1, h2⟩ := g
  have hI := h.S h1 h2
  have hT : σ'.2 0 = σ.2 0 := by rw [lx_nz_2 h1]
  refine mbmust_4 (fun q => ?_) (fun q => ?_)
  · refine mbmust_13 (X6_take_C hI (Nat.le_refl 3)) (Nat.le_trans (by decide) hd) (Nat.zero_le _) (ml_kr fun v σ'' g => ?_) ml_no
    obtain ⟨rfl, g1, g2, g3⟩ := g
    rw [hT] at g3
    exact mbmust_17 (fun G _ => ⟨rfl, q, g1.trans h1, h.next (g1.trans h1) g2 g3⟩)
  · refine mbmust_8 (X6_cant_C hI (Nat.le_refl 5)) hd (Nat.le_refl 1) (fun v σ'' G g1 g2 g3 => ?_) ml_no
    obtain ⟨⟨g4, g5⟩, q1, rfl, g6, g7, g8⟩ := g3
    refine (mbmust_12 (E := fun G => hp_kd G q1 = 4 ∧ hp_i G q1 6 = 1 ∧ hp_i G q1 7 = nI c) rfl (fun G g => g.1) (fun G g => ?_)) G g1 g2 ⟨g6, g7, g8⟩
    exact ⟨q, g.2.1, g.2.2, g4.trans h1⟩
theorem X6_nest_C {z : MZ} {d n c k : Nat} {σ : MS} (h : lx_I n c σ) (hk : k ≤ 40) (hd : 5 ≤ d) : ml_C z mX6_nest d 1 [vR (some z.2.1), vI (nI k)] σ (fun v σ' _ => k < 40 ∧ v = some (vI (nI (k + 1))) ∧ σ' = σ) (fun kd pl σ' => k = 40 ∧ kd = 3 ∧ pl = nI c ∧ lx_nz σ' = lx_nz σ) := by
  refine ml_C_of (by decide) rfl (Nat.le_of_ble_eq_true rfl) ?_
  refine mbnest_0 (fun q => ?_) (fun q => ?_)
  · have q' : nI 40 ≤ nI k := q
    have q1 := (nI_leI (by omega) (by omega)).1 q'
    refine mbnest_10 (X6_peek_C h (Nat.le_refl 2)) (Nat.le_trans (by decide) hd) (Nat.zero_le _) (ml_kr fun v σ' g => ?_) ml_no
    obtain ⟨rfl, h1, h2⟩ := g
    refine mbnest_14 (Nat.le_refl 1) (fun q => ?_)
    refine mbnest_18 rfl (X23_init_C (Nat.le_refl 4)) (fun G g => g) hd (Nat.zero_le _) ?_
    exact mbnest_27 rfl (fun G g => g.1) (fun G g => ⟨by omega, g.2.1, by rw [g.2.2, h2.2.2.2.1], h1⟩)
  · have q' : ¬ nI 40 ≤ nI k := q
    have q1 : k < 40 := Nat.lt_of_not_le fun u => q' (nI_le u (by omega))
    exact mbnest_6 (fun G _ => ⟨q1, by rw [← nI_1], rfl⟩)
