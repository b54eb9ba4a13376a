/-! is, mustBe, spelled of the reference -/
set_option maxRecDepth 100000
/-- the token at c is the word f of m letters -/
abbrev lx_is (T : Nat → Int32) (n c m : Nat) (f : Nat → Nat) : Prop := lx_kind T n c = 1 ∧ lx_end T n c = c + m ∧ ∀ i, i < m → T (c + i) = nI (f i)
theorem lx_is_V {z : MZ} {jm : MJ} {n c a m : Nat} {f : Nat → Nat} {σ : MS} (hn : n ≤ 65536) (hcn : c + m ≤ n) (h7 : σ.1 7 = nI c) (hst : ml_str z a m f) (hd : 4 ≤ jm.1)
    (K1 : (∀ i, i < m → σ.2 0 (c + i) = nI (f i)) → ∀ G, jm.2.2.1 (some (vI 1)) σ G) (K0 : ¬ (∀ i, i < m → σ.2 0 (c + i) = nI (f i)) → ∀ G, jm.2.2.1 (some (vI 0)) σ G) : ∀ k i E, m ≤ i + k → i ≤ m → (∀ u, u < i → σ.2 0 (c + u) = nI (f u)) → ml_V z mX6_is jm 28 [(0, vR (some z.2.1)), (1, vR (some a)), (2, vI (nI i))] [] σ E jm.2.1 := by
  intro k
  induction k with
  | zero =>
    intro i E h1 h2 h3
    have e : i = m := by omega
    subst e
    refine mbis_28 rfl (J13_length_M hst (Nat.le_refl 1)) (fun G _ g => (hst.at g).1) (Nat.le_trans (by decide) hd) (Nat.zero_le _) (ml_pure ?_)
    exact mbis_33 (fun _ => mbis_63 (fun G _ => K1 h3 G)) (fun q => absurd (nI_le (Nat.le_refl _) (by omega)) q)
  | succ k ih =>
    intro i E h1 h2 h3
    refine mbis_28 rfl (J13_length_M hst (Nat.le_refl 1)) (fun G _ g => (hst.at g).1) (Nat.le_trans (by decide) hd) (Nat.zero_le _) (ml_pure ?_)
    refine mbis_33 (fun q => ?_) (fun q => ?_)
    · have q1 := (nI_leI (by omega) (by omega)).1 q
      have e : i = m := by omega
      subst e
      exact mbis_63 (fun G _ => K1 h3 G)
    · have q1 : i < m := Nat.lt_of_not_le fun u => q (nI_le u (by omega))
      have e7 : σ.1 7 + nI i = nI (c + i) := by rw [h7, nI_add]
      refine mbis_36 (by rw [e7]; exact vp_in_nI (by omega) (by decide)) rfl (J13_charAt_M hst q1 (Nat.le_refl 3)) (fun G _ g => (hst.at g).1) hd (Nat.zero_le _) (ml_pure ?_)
      rw [e7, nI_clamp (by omega)]
      refine mbis_52 (fun q => ?_) (fun q => ?_)
      · refine mbis_57 ?_
        rw [nI_1]
        refine ih (i + 1) _ (by omega) (by omega) (fun u hu => ?_)
        rcases Nat.lt_succ_iff_lt_or_eq.1 hu with h | h
        · exact h3 u h
        · rw [h]; exact q
      · exact mbis_55 (fun G _ => K0 (fun u => q (u i q1)) G)
theorem X6_is_C {z : MZ} {d n c a m : Nat} {f : Nat → Nat} {σ : MS} (h : lx_I n c σ) (hst : ml_str z a m f) (hd : 4 ≤ d) : ml_C z mX6_is d 0 [vR (some z.2.1), vR (some a)] σ (fun v σ' _ => v = some (vI (if lx_is (σ.2 0) n c m f then 1 else 0)) ∧ lx_nz σ' = lx_nz σ ∧ lx_S n c σ') (fun _ _ _ => False) := by
  refine ml_C_of (by decide) rfl (Nat.le_of_ble_eq_true rfl) ?_
  refine mbis_0 (X6_peek_C h (Nat.le_refl 2)) (Nat.le_trans (by decide) hd) (Nat.zero_le _) (ml_kr fun v σ' g => ?_) ml_no
  obtain ⟨rfl, h1, h2⟩ := g
  have hT : σ'.2 0 = σ.2 0 := by rw [lx_nz_2 h1]
  have hcn := h2.1
  have hle := lx_end_le (T := σ.2 0) hcn
  have hn := h.1
  have hm : m < 2 ^ 31 := hst.1.2.2.1
  have e8 : σ'.1 8 - σ'.1 7 = nI (lx_end (σ.2 0) n c - c) := by rw [h2.2.2.2.2.1, h2.2.2.2.1, hT, pk_sub hle.1]
  refine mbis_4 (fun q => ?_) (fun q => ?_)
  · exact mbis_24 (fun G _ => ⟨by rw [if_neg (fun u => q u.1)], h1, h2⟩)
  · refine mbis_8 rfl (J13_length_M hst (Nat.le_refl 1)) (fun G _ g => (hst.at g).1) (Nat.le_trans (by decide) hd) (Nat.zero_le _) (ml_pure ?_)
    rw [e8]
    refine mbis_21 (fun q2 => ?_) (fun q2 => ?_)
    · have q3 := (nI_eq (by omega) hm).1 q2
      refine mbis_26 ?_
      refine lx_is_V hn (by omega) h2.2.2.2.1 hst hd ?_ ?_ m 0 _ (by omega) (by omega) (fun u hu => absurd hu (by omega))
      · intro u G
        refine ⟨?_, h1, h2⟩
        rw [if_pos ⟨q, by omega, by rw [← hT]; exact u⟩]
      · intro u G
        refine ⟨?_, h1, h2⟩
        rw [if_neg (fun y => u (by rw [hT]; exact y.2.2))]
    · exact mbis_24 (fun G _ => ⟨by rw [if_neg (fun u => q2 (by rw [u.2.1]; congr 1; omega))], h1, h2⟩)
theorem X6_mustBe_C {z : MZ} {d n c a m : Nat} {f : Nat → Nat} {σ : MS} (h : lx_I n c σ) (hst : ml_str z a m f) (hd : 6 ≤ d) : ml_C z mX6_mustBe d 1 [vR (some z.2.1), vR (some a)] σ (fun v σ' _ => v = none ∧ lx_is (σ.2 0) n c m f ∧ lx_nz σ' = lx_nz σ ∧ lx_I n (lx_next (σ.2 0) n c) σ') (fun kd pl σ' => ¬ lx_is (σ.2 0) n c m f ∧ kd = 1 ∧ pl = nI c ∧ lx_nz σ' = lx_nz σ) := by
  refine ml_C_of (by decide) rfl (Nat.le_of_ble_eq_true rfl) ?_
  refine mbmustBe_0 (X6_is_C h hst (Nat.le_refl 4)) (Nat.le_trans (by decide) hd) (Nat.zero_le _) (ml_kr fun v σ' g => ?_) ml_no
  obtain ⟨rfl, h1, h2⟩ := g
  have hI := h.S h1 h2
  have hT : σ'.2 0 = σ.2 0 := by rw [lx_nz_2 h1]
  refine mbmustBe_5 (fun q => ?_) (fun q => ?_)
  · have q1 : lx_is (σ.2 0) n c m f := Decidable.byContradiction fun u => q (lx_b0.2 u)
    refine mbmustBe_13 (X6_take_C hI (Nat.le_refl 3)) (Nat.le_trans (by decide) hd) (Nat.zero_le _) (ml_kr fun v σ'' g => ?_) ml_no
    obtain ⟨rfl, g1, g2, g3⟩ := g
    rw [hT] at g3
    exact mbmustBe_17 (fun G _ => ⟨rfl, q1, g1.trans h1, h.next (g1.trans h1) g2 g3⟩)
  · have q1 := lx_b0.1 q
    refine mbmustBe_8 (X6_cant_C hI (Nat.le_refl 5)) hd (Nat.le_refl 1) (fun v σ'' G g1 g2 g3 => ?_) ml_no
    obtain ⟨⟨g4, g5⟩, q2, rfl, g6, g7, g8⟩ := g3
    refine (mbmustBe_12 (E := fun G => hp_kd G q2 = 4 ∧ hp_i G q2 6 = 1 ∧ hp_i G q2 7 = nI c) rfl (fun G g => g.1) (fun G g => ?_)) G g1 g2 ⟨g6, g7, g8⟩
    exact ⟨q1, g.2.1, g.2.2, g4.trans h1⟩
