/-! THE COMPONENT's PARSER: finish, the loop over the left sides -/
set_option maxRecDepth 100000
section
variable {R : GH → Prop} {q : PZ} {S S' : MS} {X : Nat → Nat} {G G' G00 : GH} {c k0 Lv hv cv Le ce : Nat} {Q Lf : Nat → Nat} {D B cs ss : Nat} {P : Option WV → GH → Prop} {r : PE} {I : Nat → Int32}
theorem X3_fin_in (hRc : ∀ G y e, hp_kd G y = 6 → R G → R (hp_sR G y 5 e)) {k rr : Nat} (hk : k0 ≤ k ∧ k < pr_k S) (hm : ∀ x, k0 ≤ x → x < pr_k S → Lf x < Lf (x + 1)) (h26 : ∀ k, k0 ≤ k → k < pr_k S → jg_n (S.2 26 k) = Lf k ∧ jg_n (S.2 26 (k + 1)) = Lf (k + 1) ∧ pl_ok S (Lf k) (Lf (k + 1))) (hb : Lf (pr_k S) ≤ 5000) (hv2 : pr_v S ≤ 6000) (hD : 4 ≤ D) (hx : (∃ j j', Lf k0 ≤ j ∧ j < j' ∧ j' < Lf (pr_k S) ∧ jg_v S j = jg_v S j') → r = .inl (2, c))
    (K : ∀ G', fnI R q Q k0 Lf (Lf (k + 1)) S X G00 G' Lv hv cv Le ce I → wk_V q.1.1 mX3_finish (D, B, P, xq_X q G00 r, cs, ss) 93 [(0, vR (some q.1.2.1)), (1, vI (nI c)), (2, vI (nI (k - k0)))] [] G' rr) :
    ∀ m i G, Lf k + i + m = Lf (k + 1) → fnI R q Q k0 Lf (Lf k + i) S X G00 G Lv hv cv Le ce I → wk_V q.1.1 mX3_finish (D, B, P, xq_X q G00 r, cs, ss) 34 [(0, vR (some q.1.2.1)), (1, vI (nI c)), (2, vI (nI (k - k0))), (3, vR (some (Q k))), (4, vI (nI i))] [] G rr := by
  obtain ⟨y1, y2, y3⟩ := h26 k hk.1 hk.2
  have mo : ∀ a b, k0 ≤ a → a ≤ b → b ≤ pr_k S → Lf a ≤ Lf b := fun a b w1 w2 w3 => by
    have := mono_k (P := Lf) (q := k0) (q' := pr_k S) hm (b - a) a w1 (by omega)
    rw [show a + (b - a) = b by omega] at this
    exact this
  have hk1 := mo (k + 1) (pr_k S) (by omega) (by omega) (Nat.le_refl _)
  have hk2 := mo k0 k (Nat.le_refl _) hk.1 (by omega)
  intro m
  induction m with
  | zero =>
    intro i G hi h
    obtain ⟨⟨L', c', hq⟩, hr1⟩ := h.2.2.1.2 k hk.1 hk.2
    rw [y1, y2] at hq
    refine blX3_finish_34 rfl hq.1.1 hq.2.1.1 hq.2.2.1.1 (J5_size_C (d := 0) hq.2.2) (by show 0 + 1 ≤ D; omega) (Nat.zero_le _) ?_ (fun _ _ _ u => absurd u id)
    rintro v G ⟨rfl, rfl⟩
    refine blX3_finish_43 (fun _ => ?_) (fun u => absurd ((nI_leI (by omega) (by omega)).2 (by omega)) u)
    have e : Lf k + i = Lf (k + 1) := hi
    exact K _ (by rw [← e]; exact h)
  | succ m ih =>
    intro i G hi h
    obtain ⟨⟨a1, a2⟩, ⟨b1, b2, b3⟩, hL, ⟨n1, n2, n3, n4, n5⟩, ⟨f0, k00⟩, F, hF, hF1, hF2, hF3⟩ := id h
    obtain ⟨⟨L', c', hq⟩, hr1⟩ := hL.2 k hk.1 hk.2
    rw [y1, y2] at hq
    refine blX3_finish_34 rfl hq.1.1 hq.2.1.1 hq.2.2.1.1 (J5_size_C (d := 0) hq.2.2) (by show 0 + 1 ≤ D; omega) (Nat.zero_le _) ?_ (fun _ _ _ u => absurd u id)
    rintro v G ⟨rfl, rfl⟩
    refine blX3_finish_43 (fun u => absurd ((nI_leI (by omega) (by omega)).1 u) (by omega)) (fun _ => ?_)
    refine blX3_finish_46 rfl hq.1.1 hq.2.1.1 hq.2.2.1.1 (J5_get_C (d := 2) (i := i) hq.2.2 (by omega) (Nat.le_refl 2)) (by show 2 + 1 ≤ D; omega) (Nat.zero_le _) ?_ (fun _ _ _ u => absurd u id)
    rintro v G ⟨rfl, rfl⟩
    obtain ⟨xx, x1, x2, x3⟩ := y3 (Lf k + i) (by omega) (by omega)
    have ev : jg_v S (Lf k + i) = xx := by unfold jg_v; rw [x1, nI_clamp (by omega)]
    have hvv : pr_a S + jg_v S (Lf k + i) < pr_v S := by rw [ev]; exact x3
    have hvx := hF _ (Nat.le_add_right _ _) hvv
    refine blX3_finish_55 (fun y hy => ?_) rfl hvx.1.1 (fun u => ?_) (fun o9 u => ?_)
    · rw [← Option.some.inj hy, hvx.1.1]
      exact ⟨by decide, by decide, Or.inl rfl⟩
    · refine blX3_finish_71 rfl hq.1.1 hq.2.1.1 hq.2.2.1.1 (J5_get_C (d := 2) (i := i) hq.2.2 (by omega) (Nat.le_refl 2)) (by show 2 + 1 ≤ D; omega) (Nat.zero_le _) ?_ (fun _ _ _ u => absurd u id)
      rintro v G ⟨rfl, rfl⟩
      refine blX3_finish_80 (fun y hy => ?_) rfl hvx.1.1 hvx.1.2 ?_
      · rw [← Option.some.inj hy, hvx.1.1]
        exact ⟨by decide, by decide, Or.inl rfl⟩
      rw [nI_1]
      exact ih (i + 1) _ (by omega) (h.s5 hRc hk ⟨by omega, by omega⟩ hm hvv hv2 u)
    · have eF : F (pr_a S + jg_v S (Lf k + i)) = some o9 := by rw [← hvx.2.2.2.2.1.2]; exact u
      have hex : ∃ j, Lf k0 ≤ j ∧ j < Lf k + i ∧ pr_a S + jg_v S j = pr_a S + jg_v S (Lf k + i) := Classical.byContradiction fun hn => by
        have e := hF1 _ (Nat.le_add_right _ _) hvv (fun j w1 w2 w3 => hn ⟨j, w1, w2, w3⟩)
        rw [e] at eF
        cases eF
      obtain ⟨j, w1, w2, w3⟩ := hex
      have er := hx ⟨j, Lf k + i, w1, w2, by omega, by omega⟩
      refine blX3_finish_64 a2.1.1 (X3_fail_C (d := 0) a2) (by show 0 + 1 ≤ D; omega) (Nat.zero_le _) ?_ (fun _ _ _ u => absurd u id)
      rintro v G1 ⟨rfl, z1, z2⟩
      refine blX3_finish_70 rfl (by rw [z2]; decide) (by rw [z2]; decide) (wk_out0 rfl ⟨2, c, er, ?_⟩)
      rw [z2]
      exact z1.of f0 k00 (fun _ _ u => u)
theorem X3_fin_1 (hRc : ∀ G y e, hp_kd G y = 6 → R G → R (hp_sR G y 5 e)) {rr : Nat} (hm : ∀ x, k0 ≤ x → x < pr_k S → Lf x < Lf (x + 1)) (h26 : ∀ k, k0 ≤ k → k < pr_k S → jg_n (S.2 26 k) = Lf k ∧ jg_n (S.2 26 (k + 1)) = Lf (k + 1) ∧ pl_ok S (Lf k) (Lf (k + 1))) (hb : Lf (pr_k S) ≤ 5000) (hkb : pr_k S ≤ 5000) (hv2 : pr_v S ≤ 6000) (hD : 4 ≤ D) (hx : (∃ j j', Lf k0 ≤ j ∧ j < j' ∧ j' < Lf (pr_k S) ∧ jg_v S j = jg_v S j') → r = .inl (2, c))
    (K : ∀ G', fnI R q Q k0 Lf (Lf (pr_k S)) S X G00 G' Lv hv cv Le ce I → wk_V q.1.1 mX3_finish (D, B, P, xq_X q G00 r, cs, ss) 99 [(0, vR (some q.1.2.1)), (1, vI (nI c))] [] G' rr) :
    ∀ m k G, k0 ≤ k → k + m = pr_k S → fnI R q Q k0 Lf (Lf k) S X G00 G Lv hv cv Le ce I → wk_V q.1.1 mX3_finish (D, B, P, xq_X q G00 r, cs, ss) 2 [(0, vR (some q.1.2.1)), (1, vI (nI c)), (2, vI (nI (k - k0)))] [] G rr := by
  intro m
  induction m with
  | zero =>
    intro k G hk0 hk h
    obtain ⟨⟨a1, a2⟩, ⟨b1, b2, b3⟩, ⟨⟨l1, l2, l3, l4⟩, l5⟩, hn⟩ := id h
    refine blX3_finish_2 a2.1.1 b3 b1 l1 l4.1.1 (J5_size_C (d := 0) l4) (by show 0 + 1 ≤ D; omega) (Nat.zero_le _) ?_ (fun _ _ _ u => absurd u id)
    rintro v G ⟨rfl, rfl⟩
    have e : k = pr_k S := hk
    refine blX3_finish_13 (fun _ => ?_) (fun u => absurd ((nI_leI (by omega) (by omega)).2 (by omega)) u)
    exact K _ (by rw [← e]; exact h)
  | succ m ih =>
    intro k G hk0 hk h
    obtain ⟨⟨a1, a2⟩, ⟨b1, b2, b3⟩, ⟨⟨l1, l2, l3, l4⟩, l5⟩, hn⟩ := id h
    refine blX3_finish_2 a2.1.1 b3 b1 l1 l4.1.1 (J5_size_C (d := 0) l4) (by show 0 + 1 ≤ D; omega) (Nat.zero_le _) ?_ (fun _ _ _ u => absurd u id)
    rintro v G ⟨rfl, rfl⟩
    refine blX3_finish_13 (fun u => absurd ((nI_leI (by omega) (by omega)).1 u) (by omega)) (fun _ => ?_)
    refine blX3_finish_16 a2.1.1 b3 b1 l1 l4.1.1 (J5_get_C (d := 2) (i := k - k0) l4 (by omega) (Nat.le_refl 2)) (by show 2 + 1 ≤ D; omega) (Nat.zero_le _) ?_ (fun _ _ _ u => absurd u id)
    rintro v G ⟨rfl, rfl⟩
    rw [show k0 + (k - k0) = k by omega]
    have kQ : hp_kd G (Q k) = 7 := by obtain ⟨⟨L', c', z⟩, -⟩ := l5 k hk0 (by omega); exact z.1.1
    refine blX3_finish_27 (fun y hy => ?_) ?_
    · rw [← Option.some.inj hy, kQ]
      exact ⟨by decide, by decide, Or.inl rfl⟩
    have hlk := hm k hk0 (by omega)
    refine X3_fin_in hRc ⟨hk0, by omega⟩ hm h26 hb hv2 hD hx (fun G' h' => ?_) (Lf (k + 1) - Lf k) 0 G (by omega) h
    refine blX3_finish_93 ?_
    rw [nI_1, show k - k0 + 1 = k + 1 - k0 by omega]
    exact ih (k + 1) G' (by omega) (by omega) h'
end
