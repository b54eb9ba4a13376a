/-! the causes of the variables behind the inputs of an instance, with the arguments of its calls -/
set_option maxRecDepth 100000
section
variable {T : Nat → Int32} {n : Nat} {S : MS} {A Q P L B M C : Nat → Nat} {I : Nat}
theorem rw_defs (h : rw_K T n S A Q P L) {m x : Nat} (hm : m < pr_N S) : sg (ls_g S (A m) x) (vcn S m - jg_n (S.2 13 m)) (jg_n (S.2 13 m)) + aws S x (P (m + 1) - P m) (P m) ≤ (L (m + 1) - L m) + (P (m + 1) - P m) := by
  have r1 := rw_lefts (x := x) h hm
  have r2 := rw_eqs (x := x) h hm
  obtain ⟨i, o, hn⟩ := h.1.2.1 m hm
  have r3 : sg (ls_g S (A m) x) (vcn S m - jg_n (S.2 13 m)) (jg_n (S.2 13 m)) ≤ sg (fun j => ls_g S (A m) x (jg_v S j)) (L (m + 1) - L m) (L m) := by
    refine sg_onto (G := ls_g S (A m) x) (φ := jg_v S) _ _ (fun t h1 h2 => Or.inr ?_)
    obtain ⟨k, b, j, l1, k1, k2, k3, k4, k5, k6, k7, k8, k9, k10, k11, k12, l2, k13, k14, k15⟩ := rw_def h (t := t) hm (by omega) h1
    obtain ⟨-, -, ⟨Pk, Lk, ⟨c1, c2, c3, c4⟩, c5, c6⟩, -⟩ := id hn
    obtain ⟨c, hW, -⟩ := c6 k k1 k2
    obtain ⟨m1, m2, m3, m4⟩ := c5 k k1 k2
    have w6 : S.2 26 k = nI (Lk k) := hW.2.2.2.2.2.1
    have hb := hn.2.1
    have w8 : Lk k < Lk (k + 1) := hW.2.2.2.2.2.2.2.1
    have e : l1 = Lk k := by
      rw [w6] at k12
      exact ((nI_eq (by omega) (by omega)).1 k12).symm
    exact ⟨j, by omega, by omega, k11⟩
  omega
end
