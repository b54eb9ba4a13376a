/-! spelled, variableHere, nodeHere of the reference -/
set_option maxRecDepth 100000
/-- the word of k letters at place p is the token at c -/
abbrev lx_sp (T : Nat → Int32) (n c p k : Nat) : Prop := c + k = lx_end T n c ∧ ∀ i, i < k → T (p + i) = T (c + i)
theorem lx_sp_V {z : MZ} {jm : MJ} {n c p m : Nat} {σ : MS} (hn : n ≤ 65536) (hcn : c + m ≤ n) (hpn : p + m ≤ n) (h7 : σ.1 7 = nI c)
    (K1 : (∀ i, i < m → σ.2 0 (p + i) = σ.2 0 (c + i)) → ∀ G, jm.2.2.1 (some (vI 1)) σ G) (K0 : ¬ (∀ i, i < m → σ.2 0 (p + i) = σ.2 0 (c + i)) → ∀ G, jm.2.2.1 (some (vI 0)) σ G) : ∀ k i E, m ≤ i + k → i ≤ m → (∀ u, u < i → σ.2 0 (p + u) = σ.2 0 (c + u)) → ml_V z mX6_spelled jm 17 [(0, vR (some z.2.1)), (1, vI (nI p)), (2, vI (nI m)), (3, vI (nI i))] [] σ E jm.2.1 := by
  intro k
  induction k with
  | zero =>
    intro i E h1 h2 h3
    have e : i = m := by omega
    subst e
    exact mbspelled_17 (fun _ => mbspelled_52 (fun G _ => K1 h3 G)) (fun q => absurd (nI_le (Nat.le_refl _) (by omega)) q)
  | succ k ih =>
    intro i E h1 h2 h3
    refine mbspelled_17 (fun q => ?_) (fun q => ?_)
    · have q1 := (nI_leI (by omega) (by omega)).1 q
      have e : i = m := by omega
      subst e
      exact mbspelled_52 (fun G _ => K1 h3 G)
    · have q1 : i < m := Nat.lt_of_not_le fun u => q (nI_le u (by omega))
      have e7 : σ.1 7 + nI i = nI (c + i) := by rw [h7, nI_add]
      have e1 : nI p + nI i = nI (p + i) := nI_add p i
      refine mbspelled_22 (by rw [e1]; exact vp_in_nI (by omega) (by decide)) (by rw [e7]; exact vp_in_nI (by omega) (by decide)) (fun q => ?_) (fun q => ?_)
      · rw [e7, e1, nI_clamp (by omega), nI_clamp (by omega)] at q
        refine mbspelled_46 ?_
        rw [nI_1]
        refine ih (i + 1) _ (by omega) (by omega) (fun u hu => ?_)
        rcases Nat.lt_succ_iff_lt_or_eq.1 hu with h | h
        · exact h3 u h
        · rw [h]; exact q
      · rw [e7, e1, nI_clamp (by omega), nI_clamp (by omega)] at q
        exact mbspelled_44 (fun G _ => K0 (fun u => q (u i q1)) G)
theorem X6_spelled_P {z : MZ} {d n c p m : Nat} {σ : MS} (h : lx_I n c σ) (hS : lx_S n c σ) (hpm : p + m ≤ n) : ml_C z mX6_spelled d 0 [vR (some z.2.1), vI (nI p), vI (nI m)] σ (fun v σ' _ => v = some (vI (if lx_sp (σ.2 0) n c p m then 1 else 0)) ∧ σ' = σ) (fun _ _ _ => False) := by
  refine ml_C_of (by decide) rfl (Nat.le_of_ble_eq_true rfl) ?_
  have hle := lx_end_le (T := σ.2 0) hS.1
  have hn := h.1
  have e8 : σ.1 8 - σ.1 7 = nI (lx_end (σ.2 0) n c - c) := by rw [hS.2.2.2.2.1, hS.2.2.2.1, pk_sub hle.1]
  refine mbspelled_0 (fun q => ?_) (fun q => ?_)
  · rw [e8] at q
    have q3 := (nI_eq (by omega) (by omega)).1 q
    refine mbspelled_15 ?_
    refine lx_sp_V hn (by omega) hpm hS.2.2.2.1 ?_ ?_ m 0 _ (by omega) (by omega) (fun u hu => absurd hu (by omega))
    · intro u G
      refine ⟨?_, rfl⟩
      rw [if_pos ⟨by omega, u⟩]
    · intro u G
      refine ⟨?_, rfl⟩
      rw [if_neg (fun y => u y.2)]
  · rw [e8] at q
    exact mbspelled_13 (fun G _ => ⟨by rw [if_neg (fun u => q (by congr 1; omega))], rfl⟩)
/-- the first i from a on, below b, with P; b: none -/
def lx_find (P : Nat → Bool) (a b : Nat) : Nat := if a < b ∧ P a = false then lx_find P (a + 1) b else a
termination_by b - a
decreasing_by omega
theorem lx_find_1 {P : Nat → Bool} {a b : Nat} (h : a < b) (h1 : P a = false) : lx_find P a b = lx_find P (a + 1) b := by rw [lx_find, if_pos ⟨h, h1⟩]
theorem lx_find_0 {P : Nat → Bool} {a b : Nat} (h : ¬ (a < b ∧ P a = false)) : lx_find P a b = a := by rw [lx_find, if_neg h]
theorem lx_find_spec {P : Nat → Bool} {b : Nat} : ∀ k a, b ≤ a + k → a ≤ b → a ≤ lx_find P a b ∧ lx_find P a b ≤ b ∧ (∀ i, a ≤ i → i < lx_find P a b → P i = false) ∧ (lx_find P a b < b → P (lx_find P a b) = true) := by
  intro k
  induction k with
  | zero =>
    intro a h1 h2
    rw [lx_find_0 (by omega)]
    exact ⟨Nat.le_refl a, h2, fun i _ _ => by omega, fun _ => by omega⟩
  | succ k ih =>
    intro a h1 h2
    rcases Decidable.em (a < b ∧ P a = false) with h | h
    · rw [lx_find_1 h.1 h.2]
      obtain ⟨g1, g2, g3, g4⟩ := ih (a + 1) (by omega) (by omega)
      refine ⟨by omega, g2, fun i hi hi2 => ?_, g4⟩
      rcases Decidable.em (i = a) with e | e
      · rw [e]; exact h.2
      · exact g3 i (by omega) hi2
    · rw [lx_find_0 h]
      refine ⟨Nat.le_refl a, h2, fun i _ _ => by omega, fun q => ?_⟩
      cases hP : P a with
      | true => rfl
      | false => exact absurd ⟨q, hP⟩ h
/-- the variable's place i of the state is spelled as the token -/
def lx_vs (S : MS) (n c : Nat) (i : Nat) : Bool := decide (lx_sp (S.2 0) n c (S.2 20 i).toNatClampNeg (S.2 21 i).toNatClampNeg)
def lx_ns (S : MS) (n c : Nat) (i : Nat) : Bool := decide (lx_sp (S.2 0) n c (S.2 10 i).toNatClampNeg (S.2 11 i).toNatClampNeg)
def lx_res1 (P : Nat → Bool) (a b : Nat) : Int32 := if lx_find P a b < b then nI (lx_find P a b) else -1
/-- words kept at the arrays ka, kb below b lie on the tape -/
def lx_ok (S : MS) (n ka kb b : Nat) : Prop := ∀ i, i < b → ∃ p m, S.2 ka i = nI p ∧ S.2 kb i = nI m ∧ p + m ≤ n
theorem lx_vh_V {z : MZ} {jm : MJ} {n c b : Nat} {σ : MS} (h : lx_I n c σ) (hS : lx_S n c σ) (hb : b ≤ 6000) (ho : lx_ok σ n 20 21 b) (hd : 1 ≤ jm.1) : ∀ k a E, b ≤ a + k → a ≤ b → (∀ G, jm.2.2.1 (some (vI (lx_res1 (lx_vs σ n c) a b))) σ G) → ml_V z mX6_variableHere jm 10 [(0, vR (some z.2.1)), (1, vI (nI b)), (2, vI (nI a))] [] σ E jm.2.1 := by
  intro k
  induction k with
  | zero =>
    intro a E h1 h2 h3
    refine mbvariableHere_10 (fun _ => mbvariableHere_42 (fun G _ => ?_)) (fun q => absurd (nI_le (by omega) (by omega)) q)
    have := h3 G
    rw [lx_res1, lx_find_0 (by omega), if_neg (by omega)] at this
    exact this
  | succ k ih =>
    intro a E h1 h2 h3
    refine mbvariableHere_10 (fun q => mbvariableHere_42 (fun G _ => ?_)) (fun q => ?_)
    · have q1 := (nI_leI (by omega) (by omega)).1 q
      have := h3 G
      rw [lx_res1, lx_find_0 (by omega), if_neg (by omega)] at this
      exact this
    · have q1 : a < b := Nat.lt_of_not_le fun u => q (nI_le u (by omega))
      obtain ⟨p, m, e1, e2, hpm⟩ := ho a q1
      have hn := h.1
      have hcl : (nI a).toNatClampNeg = a := nI_clamp (by omega)
      have hv : lx_vs σ n c a = decide (lx_sp (σ.2 0) n c p m) := by rw [lx_vs, e1, e2, nI_clamp (by omega), nI_clamp (by omega)]
      refine mbvariableHere_15 (P := fun v σ' _ => v = some (vI (if lx_sp (σ.2 0) n c p m then 1 else 0)) ∧ σ' = σ) (PX := fun _ _ _ => False) (d' := 0) (b' := 0) (vp_in_nI (by omega) (by decide)) (by rw [hcl, e1, e2]; exact X6_spelled_P h hS hpm) hd (Nat.zero_le _) (ml_pure ?_) ml_no
      refine mbvariableHere_31 (fun q => ?_) (fun q => ?_)
      · have q2 := lx_b0.1 q
        refine mbvariableHere_36 ?_
        rw [nI_1]
        refine ih (a + 1) _ (by omega) (by omega) (fun G => ?_)
        have := h3 G
        rw [lx_res1, lx_find_1 q1 (by rw [hv]; exact decide_eq_false q2)] at this
        exact this
      · have q2 := lx_b1 q
        refine mbvariableHere_34 (fun G _ => ?_)
        have := h3 G
        rw [lx_res1, lx_find_0 (fun u => by rw [hv, decide_eq_true q2] at u; exact absurd u.2 (by decide)), if_pos q1] at this
        exact this
theorem X6_variableHere_P {z : MZ} {d n c a b N : Nat} {σ : MS} (h : lx_I n c σ) (hS : lx_S n c σ) (hb : b ≤ 6000) (ho : lx_ok σ n 20 21 b) (hN : σ.1 18 = nI N) (hN2 : N < 61) (ha : σ.2 12 N = nI a) (hab : a ≤ b) (hd : 1 ≤ d) : ml_C z mX6_variableHere d 0 [vR (some z.2.1), vI (nI b)] σ (fun v σ' _ => v = some (vI (lx_res1 (lx_vs σ n c) a b)) ∧ σ' = σ) (fun _ _ _ => False) := by
  refine ml_C_of (by decide) rfl (Nat.le_of_ble_eq_true rfl) ?_
  refine mbvariableHere_0 (by rw [hN]; exact vp_in_nI hN2 (by decide)) ?_
  rw [hN, nI_clamp (by omega), ha]
  exact lx_vh_V h hS hb ho hd b a _ (by omega) hab (fun G => ⟨rfl, rfl⟩)
