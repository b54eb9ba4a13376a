/-! how many causes an expression has, with the arguments of the calls inside -/
set_option maxRecDepth 100000
/-- the causes of the arguments of a call -/
def aw_f (S : MS) (y : Nat) (k : Nat) : Nat := (el S y (k + 1) k).length
def aw (S : MS) (y c : Nat) : Nat := if S.2 32 c = 3 then ((kls S c).map (aw_f S y)).sum else 0
def aws (S : MS) (y : Nat) : Nat → Nat → Nat
  | 0, _ => 0
  | m + 1, p => aws S y m p + aw S y (p + m)
theorem aws_add {S : MS} {y : Nat} (a : Nat) : ∀ b p, aws S y (a + b) p = aws S y a p + aws S y b (p + a) := by
  intro b
  induction b with
  | zero => intro p; rfl
  | succ b ih =>
    intro p
    rw [show a + (b + 1) = a + b + 1 by omega, aws, aws, ih, show p + a + b = p + (a + b) by omega]
    omega
theorem aw_kids {S : MS} {y e : Nat} {L : Nat → Nat} {F : Nat → Nat} : ∀ ks l, pw_k L l ks e → (∀ k ∈ ks, F k + aws S y (k + 1 - L k) (L k) ≤ k + 1 - L k) → (ks.map F).sum + aws S y (e - l) l ≤ e - l := by
  intro ks
  induction ks with
  | nil =>
    intro l h _
    rw [show l = e from h, Nat.sub_self, aws]
    exact Nat.le_refl _
  | cons k ks ih =>
    intro l h hk
    obtain ⟨h1, h2, h3, h4⟩ := h
    have r := ih (k + 1) h4 (fun x hx => hk x (List.mem_cons_of_mem _ hx))
    have r0 := hk k List.mem_cons_self
    rw [h1] at r0
    have sp := aws_add (S := S) (y := y) (k + 1 - l) (e - (k + 1)) l
    rw [show k + 1 - l + (e - (k + 1)) = e - l by omega, show l + (k + 1 - l) = k + 1 by omega] at sp
    rw [List.map_cons, List.sum_cons, sp]
    omega
theorem el_w {S : MS} {y p q : Nat} (hW : pt S p q) (h6 : ∀ e, p ≤ e → e < q → S.2 32 e = 6 → (kls S e).length = 2) : ∀ e, p ≤ e → e < q → ∀ f, e < f → (el S y f e).length + aws S y (e + 1 - lw (S.2 34) e) (lw (S.2 34) e) ≤ e + 1 - lw (S.2 34) e := by
  intro e
  induction e using Nat.strongRecOn with
  | ind e ih =>
    intro h1 h2 f hf
    obtain ⟨f, rfl⟩ : ∃ g, f = g + 1 := ⟨f - 1, by omega⟩
    have hlo := (hW e h1 h2).1
    obtain ⟨-, hk⟩ := (hW e h1 h2).2
    obtain ⟨hle, hmem⟩ := pw_k_mem _ _ hk
    have K1 : ((kls S e).map (aw_f S y)).sum + aws S y (e - lw (S.2 34) e) (lw (S.2 34) e) ≤ e - lw (S.2 34) e := aw_kids _ _ hk (fun k hkk => ih k (hmem k hkk).2 (by have := (hmem k hkk).1; omega) (by have := (hmem k hkk).2; omega) (k + 1) (by omega))
    have K2 : ((kls S e).map (fun k => (el S y f k).length)).sum + aws S y (e - lw (S.2 34) e) (lw (S.2 34) e) ≤ e - lw (S.2 34) e := aw_kids _ _ hk (fun k hkk => ih k (hmem k hkk).2 (by have := (hmem k hkk).1; omega) (by have := (hmem k hkk).2; omega) f (by have := (hmem k hkk).2; omega))
    have sp : aws S y (e + 1 - lw (S.2 34) e) (lw (S.2 34) e) = aws S y (e - lw (S.2 34) e) (lw (S.2 34) e) + aw S y e := by
      rw [show e + 1 - lw (S.2 34) e = e - lw (S.2 34) e + 1 by omega, aws, show lw (S.2 34) e + (e - lw (S.2 34) e) = e by omega]
    rw [sp]
    have na : ¬ S.2 32 e = 3 → aw S y e = 0 := fun u => by unfold aw; rw [if_neg u]
    rw [el]
    by_cases c2 : S.2 32 e = 2
    · rw [if_pos c2, na (by rw [c2]; decide)]
      simp only [List.length_cons, List.length_nil]
      omega
    · rw [if_neg c2]
      by_cases c3 : S.2 32 e = 3
      · rw [if_pos c3]
        unfold aw
        rw [if_pos c3]
        simp only [List.length_cons, List.length_nil]
        omega
      · rw [if_neg c3, na c3]
        by_cases c4 : S.2 32 e = 24
        · rw [if_pos c4]
          simp only [List.length_nil]
          omega
        · rw [if_neg c4]
          by_cases c6 : S.2 32 e = 6
          · rw [if_pos c6]
            have hl := h6 e h1 h2 c6
            generalize kls S e = ks at hl K2
            match ks, hl with
            | [a, b], _ =>
              simp only [List.map_cons, List.sum_cons] at K2
              have g0 : [a, b].getD 0 0 = a := rfl
              rw [g0]
              omega
          · rw [if_neg c6]
            by_cases c7 : S.2 32 e = 26
            · rw [if_pos c7, List.length_append, List.length_flatMap]
              simp only [List.length_cons, List.length_nil]
              omega
            · rw [if_neg c7]
              by_cases c8 : S.2 32 e = 25
              · rw [if_pos c8, List.length_append, List.length_flatMap]
                simp only [List.length_cons, List.length_nil]
                omega
              · rw [if_neg c8, List.length_flatMap]
                omega
