/-! THE COMPONENT's PARSER: groups of variables: names -/
set_option maxRecDepth 100000
theorem lx_find_cg {P Q : Nat → Bool} : ∀ k a b, b ≤ a + k → (∀ i, a ≤ i → i < b → P i = Q i) → lx_find P a b = lx_find Q a b := by
  intro k
  induction k with
  | zero =>
    intro a b hk _
    rw [lx_find_0 (by omega), lx_find_0 (by omega)]
  | succ k ih =>
    intro a b hk h
    by_cases q : a < b
    · have e := h a (Nat.le_refl _) q
      by_cases u : P a = false
      · rw [lx_find_1 q u, lx_find_1 q (by rw [← e]; exact u)]
        exact ih (a + 1) b (by omega) (fun i h1 h2 => h i (by omega) h2)
      · rw [lx_find_0 (fun v => u v.2), lx_find_0 (fun v => u (by rw [e]; exact v.2))]
    · rw [lx_find_0 (by omega), lx_find_0 (by omega)]
theorem lx_find_uq {P : Nat → Bool} {a b i : Nat} (h1 : a ≤ i) (h2 : i < b) (h3 : ∀ j, a ≤ j → j < i → P j = false) (h4 : P i = true) : lx_find P a b = i := by
  obtain ⟨g1, g2, g3, g4⟩ := lx_find_spec (P := P) (b := b) b a (by omega) (by omega)
  rcases Nat.lt_trichotomy (lx_find P a b) i with u | u | u
  · have := h3 _ g1 u
    rw [g4 (by omega)] at this
    cases this
  · exact u
  · have := g3 i h1 u
    rw [h4] at this
    cases this
theorem lx_find_nf {P : Nat → Bool} {a b : Nat} (h1 : a ≤ b) (h3 : ∀ j, a ≤ j → j < b → P j = false) : lx_find P a b = b := by
  obtain ⟨g1, g2, g3, g4⟩ := lx_find_spec (P := P) (b := b) b a (by omega) h1
  refine Decidable.byContradiction fun u => ?_
  have := h3 _ g1 (by omega)
  rw [g4 (by omega)] at this
  cases this
theorem mpf_cg {nl nl' : Nat → List Nat} {a b : Nat} {V V' : Nat → Nat} (h : ∀ i, a ≤ i → i < b → nl' i = nl i) (hV : ∀ i, a ≤ i → i < b → V' i = V i) (hab : a ≤ b) : mpf nl' a b V' = mpf nl a b V := by
  funext l
  unfold mpf
  have e : lx_find (fun i => decide (nl' i = l)) a b = lx_find (fun i => decide (nl i = l)) a b := lx_find_cg b a b (by omega) (fun i h1 h2 => by
    show decide (nl' i = l) = decide (nl i = l)
    rw [h i h1 h2])
  rw [e]
  by_cases u : lx_find (fun i => decide (nl i = l)) a b < b
  · rw [if_pos u, if_pos u, hV _ (lx_find_spec (P := fun i => decide (nl i = l)) (b := b) b a (by omega) hab).1 u]
  · rw [if_neg u, if_neg u]
theorem mpf_mu {nl : Nat → List Nat} {a t x : Nat} {V : Nat → Nat} (hat : a ≤ t) (hd : ∀ j, a ≤ j → j < t → nl j ≠ nl t) : mpf nl a (t + 1) (hp_u1 V t x) = mu (mpf nl a t V) (nl t) x := by
  funext l
  unfold mu
  by_cases u : l = nl t
  · rw [if_pos u, u]
    unfold mpf
    have e : lx_find (fun i => decide (nl i = nl t)) a (t + 1) = t := lx_find_uq hat (by omega) (fun j h1 h2 => by rw [decide_eq_false (hd j h1 h2)]) (by rw [decide_eq_true rfl])
    rw [e, if_pos (by omega)]
    unfold hp_u1
    rw [if_pos rfl]
  · rw [if_neg u]
    unfold mpf
    obtain ⟨g1, g2, g3, g4⟩ := lx_find_spec (P := fun i => decide (nl i = l)) (b := t) t a (by omega) hat
    by_cases v : lx_find (fun i => decide (nl i = l)) a t < t
    · have e : lx_find (fun i => decide (nl i = l)) a (t + 1) = lx_find (fun i => decide (nl i = l)) a t := lx_find_uq g1 (by omega) g3 (g4 v)
      rw [e, if_pos v, if_pos (by omega)]
      unfold hp_u1
      rw [if_neg (by omega)]
    · have e : lx_find (fun i => decide (nl i = l)) a (t + 1) = t + 1 := lx_find_nf (by omega) (fun j h1 h2 => by
        by_cases w : j = t
        · rw [w]; exact decide_eq_false (fun q => u q.symm)
        · exact g3 j h1 (by omega))
      rw [e, if_neg v, if_neg (by omega)]
/-- what a variable may cost -/
def wvn (m : Nat) : Nat := 76 * m + 2 * m * m
theorem wvn_s {m : Nat} : wvn (m + 1) = wvn m + 78 + 4 * m := by
  unfold wvn
  have : 2 * (m + 1) * (m + 1) = 2 * m * m + 4 * m + 2 := by
    rw [Nat.mul_add 2 m 1, Nat.add_mul, Nat.mul_add, Nat.mul_add]; omega
  omega
theorem wvn_le {m n : Nat} (h : m ≤ n) : wvn m ≤ wvn n := by
  unfold wvn
  have h1 : 2 * m ≤ 2 * n := by omega
  have := Nat.mul_le_mul h1 h
  omega
theorem al_bw {n c : Nat} (h : n ≤ c) : al_b n c ≤ 2 + n / 8 := by
  unfold al_b al_c
  by_cases q : n < c
  · rw [if_pos q]; omega
  · rw [if_neg q, if_neg q]
    by_cases u : c = 0
    · rw [if_pos u]; omega
    · rw [if_neg u]; omega
section
variable {z : RZ} {G : GH} {d : Nat}
theorem X3_listed_C {LN k cn wa : Nat} {nm : Nat → Nat} {L : Nat → List Nat} {l : List Nat} (kR : hp_kd G z.2.1 = 12) (h7 : hp_r G z.2.1 7 = some wa) (hw : hp_sc G wa l) (hN : al z.1 G LN k cn (fun i => some (nm i))) (hL : ∀ i, i < k → hp_sc G (nm i) (L i)) (hd : 3 ≤ d) :
    wk_C z.1 mX3_listed d 0 [vR (some z.2.1), vR (some LN)] G (fun v G' => ((v = some (vI 1) ∧ ∃ i, i < k ∧ L i = l) ∨ (v = some (vI 0) ∧ ∀ i, i < k → L i ≠ l)) ∧ G' = G) (fun _ _ _ => False) := by
  have hk : k < 2 ^ 24 := by have := hN.2.1; omega
  refine wk_C_of (by decide) rfl (Nat.le_of_ble_eq_true rfl) ?_
  refine blX3_listed_0 ?_
  have loop : ∀ f i, i + f = k → (∀ j, j < i → L j ≠ l) → wk_V z.1 mX3_listed (d, 0, (fun v G' => ((v = some (vI 1) ∧ ∃ i, i < k ∧ L i = l) ∨ (v = some (vI 0) ∧ ∀ i, i < k → L i ≠ l)) ∧ G' = G), (fun _ _ _ => False), hp_cs G, hp_ss G) 2 [(0, vR (some z.2.1)), (1, vR (some LN)), (2, vI (nI i))] [] G 0 := by
    intro f
    induction f with
    | zero =>
      intro i hi hno
      refine blX3_listed_2 rfl hN.1.1 (J5_size_C (d := 0) hN) (by show 0 + 1 ≤ d; omega) (Nat.zero_le _) ?_ (fun _ _ _ u => absurd u id)
      rintro v G' ⟨rfl, rfl⟩
      refine blX3_listed_7 (fun _ => ?_) (fun u => absurd (nI_le (by omega) (by omega)) u)
      exact blX3_listed_36 ⟨Or.inr ⟨rfl, fun j hj => hno j (by omega)⟩, rfl⟩
    | succ f ih =>
      intro i hi hno
      refine blX3_listed_2 rfl hN.1.1 (J5_size_C (d := 0) hN) (by show 0 + 1 ≤ d; omega) (Nat.zero_le _) ?_ (fun _ _ _ u => absurd u id)
      rintro v G' ⟨rfl, rfl⟩
      refine blX3_listed_7 (fun u => absurd u (nI_ge (by omega) (by omega))) (fun _ => ?_)
      refine blX3_listed_10 rfl hN.1.1 (J5_get_C (d := 2) hN (by omega) (Nat.le_refl 2)) (by show 2 + 1 ≤ d; omega) (Nat.zero_le _) ?_ (fun _ _ _ u => absurd u id)
      rintro v G' ⟨rfl, rfl⟩
      have hi2 := hL i (by omega)
      refine blX3_listed_15 (fun y hy => ?_) kR rfl hi2.1 (by rw [h7]; exact J13_equals_C (d := 1) hi2 hw (Nat.le_refl 1)) (by show 1 + 1 ≤ d; omega) (Nat.zero_le _) ?_ (fun _ _ _ u => absurd u id)
      · rw [← Option.some.inj hy, hi2.1]
        exact ⟨by decide, by decide, Or.inl rfl⟩
      · rintro v G' ⟨rfl, rfl⟩
        refine blX3_listed_25 (fun u => ?_) (fun u => ?_)
        · refine blX3_listed_30 ?_
          rw [nI_1]
          refine ih (i + 1) (by omega) (fun j hj => ?_)
          by_cases e : j = i
          · rw [e]; exact lx_b0.1 u
          · exact hno j (by omega)
        · exact blX3_listed_28 ⟨Or.inl ⟨rfl, i, by omega, lx_b1 u⟩, rfl⟩
  exact loop k 0 (by omega) (fun j hj => by omega)
end
/-- the names of a group, of the variables from b on: in the list LN, made since G0 -/
def gnm (q : PZ) (S : MS) (b : Nat) (G0 G : GH) (LN k cn : Nat) (nm : Nat → Nat) : Prop := al q.1.1 G LN k cn (fun i => some (nm i)) ∧ (∀ i, i < k → st q.1.1 G (nm i) (nlv (rz_T q.1) S (b + i))) ∧ (hp_kd G0 LN = 0 ∧ ∀ o, hp_r G LN 0 = some o → cn = 0 ∨ hp_kd G0 o = 0) ∧ ∀ i j, pr_a S ≤ i → i < j → b ≤ j → j < b + k → nlv (rz_T q.1) S i ≠ nlv (rz_T q.1) S j
section
variable {q : PZ} {S S0 : MS} {X : Nat → Nat} {G G0 G' : GH} {lo b : Nat}
theorem nlv_old {T : Nat → Int32} {i : Nat} (h : pg_same b S0 S) (hi : i < b) : nlv T S i = nlv T S0 i := by
  unfold nlv
  rw [h.2.2 20 i hi, h.2.2 21 i hi]
theorem gnm.fr {own : Nat → Prop} {LN k cn : Nat} {nm : Nat → Nat} (h : gnm q S b G0 G LN k cn nm) (hf : cf own G G') (hst : ∀ a l, st q.1.1 G a l → st q.1.1 G' a l) (h1 : ¬ own LN) (h2 : ∀ x, ow G x LN → hp_kd G x = 32 → ¬ own x) : gnm q S b G0 G' LN k cn nm :=
  ⟨h.1.fr hf h1 h2, fun i hi => hst _ _ (h.2.1 i hi), ⟨h.2.2.1.1, fun o ho => h.2.2.1.2 o (by rw [hf.r (by rw [h.1.1.1]; decide) h1] at ho; exact ho)⟩, h.2.2.2⟩
/-- over a scan and the like -/
theorem gnm.rx {LN k cn : Nat} {nm : Nat → Nat} (h : gnm q S b G0 G LN k cn nm) (hR : hp_kd G q.1.2.1 = 12) (hB : hp_kd G q.1.2.2.2.1 = 3) (hf : rx q.1 no9 G G') : gnm q S b G0 G' LN k cn nm := by
  have kL := h.1.1.1
  refine h.fr hf.1 hf.2.2 ?_ (fun x _ hx => ?_)
  · rintro (u | u | u | u)
    · exact u
    · rw [u, hR] at kL; cases kL
    · rw [u, hB] at kL; cases kL
    · rw [u] at kL; cases kL
  · rintro (u | u | u | u)
    · exact u
    · rw [u, hR] at hx; cases hx
    · rw [u, hB] at hx; cases hx
    · rw [u] at hx; cases hx
end
