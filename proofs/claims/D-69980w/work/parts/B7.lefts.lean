/-! the causes of what the equations of an instance define -/
set_option maxRecDepth 100000
section
variable {T : Nat → Int32} {n : Nat} {S : MS} {A Q P L B M C : Nat → Nat} {I : Nat}
/-- the causes that the equation of the left side j gives -/
def ls_k (S : MS) (A : Nat) (j : Nat) : Nat := jg_n (S.2 46 (A + jg_v S j))
theorem cl_b_le {x b : Nat} {i : Int32} : (cl_b S x b i).length ≤ (if S.2 32 b = 3 then 1 else (el S x (b + 1) b).length) := by
  unfold cl_b
  split
  · exact Nat.le_refl _
  · exact Nat.le_refl _
/-- the causes of the variable t of the node m, in x -/
def ls_g (S : MS) (A x t : Nat) : Nat := if S.2 32 (jg_n (S.2 27 (jg_n (S.2 46 (A + t))))) = 3 then 1 else (el S x (jg_n (S.2 27 (jg_n (S.2 46 (A + t)))) + 1) (jg_n (S.2 27 (jg_n (S.2 46 (A + t)))))).length
theorem rw_lefts (h : rw_K T n S A Q P L) {m x : Nat} (hm : m < pr_N S) : sg (fun j => ls_g S (A m) x (jg_v S j)) (L (m + 1) - L m) (L m) ≤ (L (m + 1) - L m) + eqs S x (Q (m + 1) - Q m) (Q m) := by
  obtain ⟨i, o, hn⟩ := h.1.2.1 m hm
  obtain ⟨⟨a1, a2, a3, a4, a5, a6⟩, ⟨b1, b2, b3, b4, b5, b6, b7, b8, b9, b10, b11, b12, b13, b14⟩, ⟨Pk, Lk, ⟨c1, c2, c3, c4⟩, c5, c6⟩, -⟩ := id hn
  have main : ∀ f k, k + f = Q (m + 1) → Q m ≤ k → sg (fun j => ls_g S (A m) x (jg_v S j)) (L (m + 1) - Lk k) (Lk k) ≤ (L (m + 1) - Lk k) + eqs S x f k := by
    intro f
    induction f with
    | zero =>
      intro k hk hl
      rw [Nat.add_zero] at hk
      rw [hk, c4, Nat.sub_self, sg]
      exact Nat.zero_le _
    | succ f ih =>
      intro k hk hl
      obtain ⟨c, hW, -⟩ := c6 k hl (by omega)
      obtain ⟨m1, m2, m3, m4⟩ := c5 k hl (by omega)
      have hfk := h.2 m hm k hl (by omega)
      rw [fk_eq hW (by omega) (by omega)] at hfk
      obtain ⟨g1, g2, g3, g4⟩ := hfk
      obtain ⟨w1, w2, w3, w4, w5, w6, w7, w8, w9, w10, w11, w12, w13⟩ := hW
      have w4 : S.2 27 k = nI (Pk (k + 1) - 1) := w4
      have w12 : lx_kind T n c = 40 → S.2 32 (Pk (k + 1) - 1) = 3 := w12
      have e27 : jg_n (S.2 27 k) = Pk (k + 1) - 1 := by rw [w4, jg_n, nI_clamp (by omega)]
      have ek : ∀ j, Lk k ≤ j → j < Lk (k + 1) → ls_g S (A m) x (jg_v S j) = (if S.2 32 (Pk (k + 1) - 1) = 3 then 1 else (el S x (Pk (k + 1) - 1 + 1) (Pk (k + 1) - 1)).length) := fun j j1 j2 => by
        have e46 : jg_n (S.2 46 (A m + jg_v S j)) = k := by rw [(g4 j j1 j2).1, jg_n, nI_clamp (by omega)]
        unfold ls_g
        rw [e46, e27]
      have r := ih (k + 1) (by omega) (by omega)
      have sp := sg_add (g := fun j => ls_g S (A m) x (jg_v S j)) (Lk (k + 1) - Lk k) (L (m + 1) - Lk (k + 1)) (Lk k)
      rw [show Lk (k + 1) - Lk k + (L (m + 1) - Lk (k + 1)) = L (m + 1) - Lk k by omega, show Lk k + (Lk (k + 1) - Lk k) = Lk (k + 1) by omega] at sp
      have one : sg (fun j => ls_g S (A m) x (jg_v S j)) (Lk (k + 1) - Lk k) (Lk k) ≤ (Lk (k + 1) - Lk k) + (el S x (Pk (k + 1) - 1 + 1) (Pk (k + 1) - 1)).length := by
        by_cases u : S.2 32 (Pk (k + 1) - 1) = 3
        · have c1 : ∀ m p, (∀ j, p ≤ j → j < p + m → ls_g S (A m) x (jg_v S j) = 1 ∨ True) := fun _ _ _ _ _ => Or.inr trivial
          have q : sg (fun j => ls_g S (A m) x (jg_v S j)) (Lk (k + 1) - Lk k) (Lk k) ≤ sg (fun _ => 1) (Lk (k + 1) - Lk k) (Lk k) := sg_le _ _ (fun j j1 j2 => by
            show ls_g S (A m) x (jg_v S j) ≤ 1
            rw [ek j j1 (by omega), if_pos u]
            exact Nat.le_refl _)
          have q2 : ∀ m p, sg (fun _ => 1) m p = m := fun m p => by
            induction m with
            | zero => rfl
            | succ m ih => rw [sg, ih]
          rw [q2] at q
          omega
        · have hl1 : Lk (k + 1) = Lk k + 1 := w13 (fun y => u (w12 y))
          rw [hl1, show Lk k + 1 - Lk k = 0 + 1 by omega, sg, sg]
          have := ek (Lk k) (Nat.le_refl _) (by omega)
          rw [if_neg u] at this
          show 0 + ls_g S (A m) x (jg_v S (Lk k + 0)) ≤ _
          rw [Nat.add_zero, this]
          omega
      rw [sp, eqs, e27]
      omega
  have := main (Q (m + 1) - Q m) (Q m) (by omega) (Nat.le_refl _)
  rw [c3] at this
  exact this
end
