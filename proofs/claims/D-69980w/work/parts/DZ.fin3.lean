/-! THE COMPONENT's PARSER: finish, the loop over the variables -/
set_option maxRecDepth 100000
section
variable {R : GH → Prop} {q : PZ} {S S' : MS} {X : Nat → Nat} {G G' G00 : GH} {c k0 Lv hv cv Le ce : Nat} {Q Lf : Nat → Nat} {D B cs ss : Nat} {P : Option WV → GH → Prop} {r : PE} {I : Nat → Int32}
theorem X3_fin_2 {rr ni : Nat} (hk0 : k0 ≤ pr_k S) (hav : pr_a S ≤ pr_v S) (hv2 : pr_v S ≤ 6000) (hD : 4 ≤ D) (hx : (∃ v, pr_a S + ni ≤ v ∧ v < pr_v S ∧ ∀ j, Lf k0 ≤ j → j < Lf (pr_k S) → pr_a S + jg_v S j ≠ v) → r = .inl (2, c))
    (K : ∀ G', fnI R q Q k0 Lf (Lf (pr_k S)) S X G00 G' Lv hv cv Le ce I → (∀ v, pr_a S + ni ≤ v → v < pr_v S → ∃ j, Lf k0 ≤ j ∧ j < Lf (pr_k S) ∧ pr_a S + jg_v S j = v) → wk_V q.1.1 mX3_finish (D, B, P, xq_X q G00 r, cs, ss) 154 [(0, vR (some q.1.2.1))] [] G' rr) :
    ∀ m t G, ni ≤ t → pr_a S + t + m = pr_v S → (∀ v, pr_a S + ni ≤ v → v < pr_a S + t → ∃ j, Lf k0 ≤ j ∧ j < Lf (pr_k S) ∧ pr_a S + jg_v S j = v) → fnI R q Q k0 Lf (Lf (pr_k S)) S X G00 G Lv hv cv Le ce I → wk_V q.1.1 mX3_finish (D, B, P, xq_X q G00 r, cs, ss) 107 [(0, vR (some q.1.2.1)), (1, vI (nI c)), (2, vI (nI t))] [] G rr := by
  intro m
  induction m with
  | zero =>
    intro t G ht hm hd h
    obtain ⟨⟨a1, a2⟩, ⟨b1, b2, b3⟩, hL, ⟨n1, n2, n3, n4, n5⟩, ⟨f0, k00⟩, F, hF, hF1, hF2, hF3⟩ := id h
    refine blX3_finish_107 a2.1.1 b3 b1 n1 n5.1.1 (J5_size_C (d := 0) n5) (by show 0 + 1 ≤ D; omega) (Nat.zero_le _) ?_ (fun _ _ _ u => absurd u id)
    rintro v G ⟨rfl, rfl⟩
    refine blX3_finish_118 (fun _ => ?_) (fun u => absurd ((nI_leI (by omega) (by omega)).2 (by omega)) u)
    exact K _ h (fun v w1 w2 => hd v w1 (by omega))
  | succ m ih =>
    intro t G ht hm hd h
    obtain ⟨⟨a1, a2⟩, ⟨b1, b2, b3⟩, hL, ⟨n1, n2, n3, n4, n5⟩, ⟨f0, k00⟩, F, hF, hF1, hF2, hF3⟩ := id h
    refine blX3_finish_107 a2.1.1 b3 b1 n1 n5.1.1 (J5_size_C (d := 0) n5) (by show 0 + 1 ≤ D; omega) (Nat.zero_le _) ?_ (fun _ _ _ u => absurd u id)
    rintro v G ⟨rfl, rfl⟩
    refine blX3_finish_118 (fun u => absurd ((nI_leI (by omega) (by omega)).1 u) (by omega)) (fun _ => ?_)
    refine blX3_finish_121 a2.1.1 b3 b1 n1 n5.1.1 (J5_get_C (d := 2) (i := t) n5 (by omega) (Nat.le_refl 2)) (by show 2 + 1 ≤ D; omega) (Nat.zero_le _) ?_ (fun _ _ _ u => absurd u id)
    rintro v G ⟨rfl, rfl⟩
    have hvv : pr_a S + t < pr_v S := by omega
    have hvx := hF _ (Nat.le_add_right _ _) hvv
    refine blX3_finish_132 (fun y hy => ?_) rfl hvx.1.1 (fun o9 u => ?_) (fun u => ?_)
    · rw [← Option.some.inj hy, hvx.1.1]
      exact ⟨by decide, by decide, Or.inl rfl⟩
    · have eF : F (pr_a S + t) = some o9 := by rw [← hvx.2.2.2.2.1.2]; exact u
      have hex : ∃ j, Lf k0 ≤ j ∧ j < Lf (pr_k S) ∧ pr_a S + jg_v S j = pr_a S + t := Classical.byContradiction fun hn => by
        have e := hF1 _ (Nat.le_add_right _ _) hvv (fun j w1 w2 w3 => hn ⟨j, w1, w2, w3⟩)
        rw [e] at eF
        cases eF
      refine blX3_finish_148 ?_
      rw [nI_1]
      refine ih (t + 1) _ (by omega) (by omega) (fun v w1 w2 => ?_) h
      rcases Nat.lt_or_ge v (pr_a S + t) with w | w
      · exact hd v w1 w
      · rw [show v = pr_a S + t by omega]; exact hex
    · have eF : F (pr_a S + t) = none := by rw [← hvx.2.2.2.2.1.2]; exact u
      have er := hx ⟨pr_a S + t, by omega, hvv, fun j w1 w2 w3 => by
        obtain ⟨k, z1, z2, z3, z4⟩ := loc_k (P := Lf) (e := j) (pr_k S - k0) k0 w1 (by rw [show k0 + (pr_k S - k0) = pr_k S by omega]; exact w2)
        have e := hF2 k j z1 (by omega) z3 z4 w2
        rw [w3, eF] at e
        cases e⟩
      refine blX3_finish_141 a2.1.1 (X3_fail_C (d := 0) a2) (by show 0 + 1 ≤ D; omega) (Nat.zero_le _) ?_ (fun _ _ _ u => absurd u id)
      rintro v G1 ⟨rfl, z1, z2⟩
      refine blX3_finish_147 rfl (by rw [z2]; decide) (by rw [z2]; decide) (wk_out0 rfl ⟨2, c, er, ?_⟩)
      rw [z2]
      exact z1.of f0 k00 (fun _ _ u => u)
end
