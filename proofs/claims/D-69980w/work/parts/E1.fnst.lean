/-! THE COMPONENT's PARSER: finish begins -/
set_option maxRecDepth 100000
section
variable {R : GH → Prop} {q : PZ} {S S0 S5 : MS} {X : Nat → Nat} {G G1 G00 : GH} {lo c k0 Lv hv cv Le ce : Nat} {Q Lf : Nat → Nat} {Mf : Nat → Option (Nat × Nat)} {I : Nat → Int32}
theorem fn_start (hRG : R G) (h : eqI q Mf Q lo k0 c S0 S X G00 G1 G Le ce) (hR : hp_kd G1 q.1.2.1 = 12) (hB : hp_kd G1 q.1.2.2.2.1 = 3) (kn : hp_kd G1 (qn q) = 8) (hLe : ow G1 Le (qn q) ∧ hp_kd G1 Le = 22) (hne : Lv ≠ Le) (hn : nvs q S5 (pr_v S5) G00 G1 Lv hv cv) (ea : pr_a S = pr_a S5) (ev : pr_v S = pr_v S5) (hI : hp_i G1 (qn q) = I) (hm : ∀ x, k0 ≤ x → x < pr_k S → Lf x < Lf (x + 1)) : fnI R q Q k0 Lf (Lf k0) S X G00 G Lv hv cv Le ce I := by
  obtain ⟨hp, -, -, -, -, hL, -, f0, fs, ks⟩ := h
  obtain ⟨n1, n2, n3, n4, n5⟩ := hn
  have kLv := n5.1.1
  have hko : ∀ y, al_o G1 Le y → hp_kd G1 y = 22 ∨ hp_kd G1 y = 32 := by
    rintro y (u | u)
    · rw [u]; exact Or.inl hLe.2
    · exact Or.inr u.2
  obtain ⟨e1, e2, -⟩ := fs.old hR hB (x := qn q) (by rw [kn]; decide) (fun u => by have := hko _ u; omega) (by rw [kn]; decide)
  refine ⟨⟨⟨⟨hp.2.1.1, hRG⟩, e1.trans hI⟩, hp.1.1⟩, hp.2.1.2.1, hL, ⟨by rw [e2]; exact n1, by rw [e2]; exact n2, ⟨n3.1, n3.2.1, n3.2.2.1, by rw [ea, ev]; exact n3.2.2.2⟩, n4.cg (fs.1.lg (by rw [kLv]; decide)), ?_⟩, f0, fun _ => none, fun v u1 u2 => (hp.2.1.2.2.2.2.2 v u1 u2).b, fun _ _ _ _ => rfl, fun k j u1 u2 u3 u4 u5 => ?_, fun j j' u1 u2 u3 => absurd u3 (by omega)⟩
  · rw [ea, ev]
    refine n5.fr fs.1 ?_ (fun y hy0 hy => ?_)
    · rintro ((u | ⟨-, u⟩) | u | u | u)
      · exact hne u
      · rw [kLv] at u; cases u
      · rw [u, hR] at kLv; cases kLv
      · rw [u, hB] at kLv; cases kLv
      · rw [u] at kLv; cases kLv
    · rintro ((u | ⟨u, -⟩) | u | u | u)
      · rw [u, hLe.2] at hy; cases hy
      · exact hne (hy0.uq u)
      · rw [u, hR] at hy; cases hy
      · rw [u, hB] at hy; cases hy
      · rw [u] at hy; cases hy
  · have := mono_k (P := Lf) (q := k0) (q' := pr_k S) hm (k - k0) k0 (Nat.le_refl _) (by omega)
    rw [show k0 + (k - k0) = k by omega] at this
    omega
end
