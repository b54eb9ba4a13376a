/-! sums over a range; a map onto -/
/-- the sum of g over p .. p + m - 1 -/
def sg (g : Nat → Nat) : Nat → Nat → Nat
  | 0, _ => 0
  | m + 1, p => sg g m p + g (p + m)
theorem sg_add {g : Nat → Nat} (a : Nat) : ∀ b p, sg g (a + b) p = sg g a p + sg g b (p + a) := by
  intro b
  induction b with
  | zero => intro p; rfl
  | succ b ih =>
    intro p
    rw [show a + (b + 1) = a + b + 1 by omega, sg, sg, ih, show p + a + b = p + (a + b) by omega]
    omega
theorem sg_le {g g' : Nat → Nat} : ∀ m p, (∀ j, p ≤ j → j < p + m → g j ≤ g' j) → sg g m p ≤ sg g' m p := by
  intro m
  induction m with
  | zero => intro p _; exact Nat.le_refl _
  | succ m ih =>
    intro p h
    have r := ih p (fun j h1 h2 => h j h1 (by omega))
    have r2 := h (p + m) (by omega) (by omega)
    rw [sg, sg]
    omega
theorem sg_plus {g g' : Nat → Nat} : ∀ m p, sg (fun j => g j + g' j) m p = sg g m p + sg g' m p := by
  intro m
  induction m with
  | zero => intro p; rfl
  | succ m ih =>
    intro p
    rw [sg, sg, sg, ih]
    omega
theorem sg_zero {g : Nat → Nat} : ∀ m p, (∀ j, p ≤ j → j < p + m → g j = 0) → sg g m p = 0 := by
  intro m
  induction m with
  | zero => intro p _; rfl
  | succ m ih =>
    intro p h
    rw [sg, ih p (fun j h1 h2 => h j h1 (by omega)), h (p + m) (by omega) (by omega)]
/-- one place of a range -/
theorem sg_one {g : Nat → Nat} {j : Nat} : ∀ m p, p ≤ j → j < p + m → g j ≤ sg g m p := by
  intro m
  induction m with
  | zero => intro p h1 h2; omega
  | succ m ih =>
    intro p h1 h2
    rw [sg]
    rcases Nat.lt_or_ge j (p + m) with u | u
    · have := ih p h1 u
      omega
    · rw [show p + m = j by omega]
      omega
/-- a sum where only t counts -/
theorem sg_if {G : Nat → Nat} {t : Nat} : ∀ m p, sg (fun u => if u = t then G t else 0) m p ≤ G t := by
  intro m
  induction m with
  | zero => intro p; exact Nat.zero_le _
  | succ m ih =>
    intro p
    rw [sg]
    by_cases u : p + m = t
    · rw [if_pos u, sg_zero m p (fun j h1 h2 => by rw [if_neg (by omega)])]
      omega
    · rw [if_neg u]
      have := ih p
      omega
/-- a map onto the range i .. i + N - 1: the sum over it is at most the sum over where it comes from -/
theorem sg_onto {G φ : Nat → Nat} {i N : Nat} : ∀ m p, (∀ t, i ≤ t → t < i + N → G t = 0 ∨ ∃ j, p ≤ j ∧ j < p + m ∧ φ j = t) → sg G N i ≤ sg (fun j => G (φ j)) m p := by
  have key : ∀ m p, sg (fun t => sg (fun j => if t = φ j then G (φ j) else 0) m p) N i ≤ sg (fun j => G (φ j)) m p := by
    intro m
    induction m with
    | zero => intro p; exact Nat.le_of_eq (sg_zero N i (fun _ _ _ => rfl))
    | succ m ih =>
      intro p
      have e : sg (fun t => sg (fun j => if t = φ j then G (φ j) else 0) (m + 1) p) N i = sg (fun t => sg (fun j => if t = φ j then G (φ j) else 0) m p) N i + sg (fun t => if t = φ (p + m) then G (φ (p + m)) else 0) N i := by
        rw [← sg_plus]
        rfl
      rw [e, sg]
      have r := ih p
      have r2 := sg_if (G := G) (t := φ (p + m)) N i
      omega
  intro m p h
  refine Nat.le_trans (sg_le N i (fun t h1 h2 => ?_)) (key m p)
  rcases h t h1 h2 with u | ⟨j, j1, j2, j3⟩
  · rw [u]; exact Nat.zero_le _
  · have := sg_one (g := fun j => if t = φ j then G (φ j) else 0) (j := j) m p j1 j2
    have e : (if t = φ j then G (φ j) else 0) = G t := by rw [if_pos j3.symm, j3]
    omega
