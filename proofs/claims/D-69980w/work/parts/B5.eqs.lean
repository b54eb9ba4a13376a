/-! how many causes the equations of a node have, with the arguments of its calls -/
set_option maxRecDepth 100000
def eqs (S : MS) (x : Nat) : Nat → Nat → Nat
  | 0, _ => 0
  | f + 1, k => (el S x (jg_n (S.2 27 k) + 1) (jg_n (S.2 27 k))).length + eqs S x f (k + 1)
section
variable {T : Nat → Int32} {n : Nat} {S : MS} {A Q P L B M C : Nat → Nat} {I : Nat}
theorem rw_eqs (h : rw_K T n S A Q P L) {m x : Nat} (hm : m < pr_N S) : eqs S x (Q (m + 1) - Q m) (Q m) + aws S x (P (m + 1) - P m) (P m) ≤ P (m + 1) - P m := by
  obtain ⟨i, o, hn⟩ := h.1.2.1 m hm
  obtain ⟨⟨a1, a2, a3, a4, a5, a6⟩, ⟨b1, b2, b3, b4, b5, b6, b7, b8, b9, b10, b11, b12, b13, b14⟩, ⟨Pk, Lk, ⟨c1, c2, c3, c4⟩, c5, c6⟩, -⟩ := id hn
  have main : ∀ f k, k + f = Q (m + 1) → Q m ≤ k → eqs S x f k + aws S x (P (m + 1) - Pk k) (Pk k) ≤ P (m + 1) - Pk k := by
    intro f
    induction f with
    | zero =>
      intro k hk hl
      rw [Nat.add_zero] at hk
      rw [hk, c2, Nat.sub_self, eqs, aws]
      exact Nat.le_refl _
    | succ f ih =>
      intro k hk hl
      obtain ⟨c, hW, -⟩ := c6 k hl (by omega)
      obtain ⟨m1, m2, m3, m4⟩ := c5 k hl (by omega)
      have hpt : pt S (Pk k) (Pk (k + 1)) := (hW.2.2.2.2.2.2.2.2.2.1.pt (by omega)).vw
      obtain ⟨w1, w2, w3, w4, w5, w6, w7, w8, w9, -⟩ := hW
      have w4 : S.2 27 k = nI (Pk (k + 1) - 1) := w4
      have w9 : lw (S.2 34) (Pk (k + 1) - 1) = Pk k := w9
      have r := ih (k + 1) (by omega) (by omega)
      have g := el_w (y := x) hpt (fun e e1 e2 q => by
        obtain ⟨k0, k1, g1, -⟩ := rw_k2 h hm (e := e) (by omega) (by omega) (by rw [q]; decide)
        rw [g1]; rfl) (Pk (k + 1) - 1) (by omega) (by omega) (Pk (k + 1) - 1 + 1) (by omega)
      rw [w9] at g
      have e27 : jg_n (S.2 27 k) = Pk (k + 1) - 1 := by rw [w4, jg_n, nI_clamp (by omega)]
      have sp := aws_add (S := S) (y := x) (Pk (k + 1) - Pk k) (P (m + 1) - Pk (k + 1)) (Pk k)
      rw [show Pk (k + 1) - Pk k + (P (m + 1) - Pk (k + 1)) = P (m + 1) - Pk k by omega, show Pk k + (Pk (k + 1) - Pk k) = Pk (k + 1) by omega] at sp
      rw [eqs, e27, sp]
      rw [show Pk (k + 1) - 1 + 1 - Pk k = Pk (k + 1) - Pk k by omega] at g
      omega
  have := main (Q (m + 1) - Q m) (Q m) (by omega) (Nat.le_refl _)
  rw [c1] at this
  exact this
end
