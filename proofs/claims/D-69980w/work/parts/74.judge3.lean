/-! judge: the other loops; the contract -/
set_option maxRecDepth 100000
section
variable {z : MZ} {jm : MJ} {n k b m d : Nat} {many : Bool} {σ : MS}
theorem jg_md {S : MS} {l l' j : Nat} (h : pl_ok S l l') (hv : pr_v S ≤ 6000) (h1 : l ≤ j) (h2 : j < l') : S.2 28 j = nI (jg_v S j) ∧ pr_a S + jg_v S j < pr_v S := by
  obtain ⟨x, e, -, hx⟩ := h j h1 h2
  have : jg_v S j = x := by rw [jg_v, e, nI_clamp (by omega)]
  rw [this]
  exact ⟨e, hx⟩
theorem judge_lt {l : Nat} {A : Nat → Int32} (hJ : pj_V n σ) (hl : l + m < 5000) (hk : k < 5000) (hb : b < 5000) (h26 : σ.2 26 k = nI l) (hpl : pl_ok σ l (l + m)) (hmany : many = true → σ.2 32 b = 3 ∧ ∃ f, f < pr_N σ ∧ σ.2 33 b = nI f ∧ σ.2 14 f = nI m) (hd : 6 ≤ jm.1) (h1 : 1 ≤ jm.2.1) : ∀ M i E, i + M = m →
    (jg_lt σ (jg_g σ A many b) l M i = false → ∀ σ', md_px σ σ' → jm.2.2.2 4 (σ.2 25 k) σ') →
    (jg_lt σ (jg_g σ A many b) l M i = true → ∀ E, ml_V z mX6_judge jm 197 [(0, vR (some z.2.1)), (1, vI (nI k)), (2, vI (nI b)), (3, vI (nI m))] [] (ml_saA (ml_sf σ 42 (σ.2 25 k)) 41 A) E jm.2.1) →
    ml_V z mX6_judge jm 99 [(0, vR (some z.2.1)), (1, vI (nI k)), (2, vI (nI b)), (3, vI (nI m)), (4, vI (if many = true then 1 else 0)), (5, vI (nI i))] [] (ml_saA (ml_sf σ 42 (σ.2 25 k)) 41 A) E jm.2.1 := by
  obtain ⟨hV, h01, hnod⟩ := hJ
  obtain ⟨v1, v2, v3, v4, v5, v6, v7, v8, v9⟩ := hV.N
  intro M
  induction M with
  | zero =>
    intro i E he hX hK
    refine mbjudge_99 (fun _ => hK rfl _) (fun q => absurd ((nI_leI (by omega) (by omega)).2 (by omega)) q)
  | succ M ih =>
    intro i E he hX hK
    have hv := jg_md hpl v4 (j := l + i) (by omega) (by omega)
    have e1 : σ.2 26 (nI k).toNatClampNeg + nI i = nI (l + i) := by rw [nI_clamp (by omega), h26, nI_add]
    have e2 : σ.2 12 (σ.1 18).toNatClampNeg + σ.2 28 (σ.2 26 (nI k).toNatClampNeg + nI i).toNatClampNeg = nI (pr_a σ + jg_v σ (l + i)) := by
      rw [e1, nI_clamp (n := l + i) (by omega), hv.1, v1, nI_clamp (n := pr_N σ) (by omega), v5, nI_add]
    have step : ∀ E g, g = jg_g σ A many b i → ml_V z mX6_judge jm 180 [(0, vR (some z.2.1)), (1, vI (nI k)), (2, vI (nI b)), (3, vI (nI m)), (4, vI (if many = true then 1 else 0)), (5, vI (nI i))] [vI g, vI (σ.2 24 (pr_a σ + jg_v σ (l + i))), vR (some z.2.1)] (ml_saA (ml_sf σ 42 (σ.2 25 k)) 41 A) E jm.2.1 := by
      intro E g hg
      subst hg
      have st2 : ∀ E (x : Int32), (x = 0 → jg_lt σ (jg_g σ A many b) l (M + 1) i = false) → (x ≠ 0 → jg_lt σ (jg_g σ A many b) l M (i + 1) = jg_lt σ (jg_g σ A many b) l (M + 1) i) → ml_V z mX6_judge jm 188 [(0, vR (some z.2.1)), (1, vI (nI k)), (2, vI (nI b)), (3, vI (nI m)), (4, vI (if many = true then 1 else 0)), (5, vI (nI i))] [vI x, vR (some z.2.1)] (ml_saA (ml_sf σ 42 (σ.2 25 k)) 41 A) E jm.2.1 := by
        intro E x h0 h2
        refine mbjudge_188 (X6_type_C (Nat.le_refl 5)) hd h1 (ml_kr0 fun σ' ⟨hg, hσ⟩ => ?_) (fun kd pl σ' ⟨g1, g2, g3, g4⟩ => ?_)
        · subst hσ
          refine mbjudge_191 ?_
          rw [nI_1]
          have e5 := h2 hg
          rw [← e5] at hX hK
          exact ih (i + 1) _ (by omega) hX hK
        · rw [g2, g3, g4]
          exact hX (h0 g1) _ jg_px1
      refine mbjudge_180 (fun q => mbjudge_187 (st2 _ 0 (fun _ => ?_) (fun u => absurd rfl u))) (fun q => mbjudge_183 (st2 _ 1 (fun u => absurd u (by decide)) (fun _ => ?_)))
      · rw [jg_lt, decide_eq_false q]; rfl
      · rw [jg_lt, decide_eq_true q]; rfl
    refine mbjudge_99 (fun q => absurd ((nI_leI (by omega) (by omega)).1 q) (by omega)) (fun _ => ?_)
    refine mbjudge_105 ?_ (vp_in_nI (by omega) (by decide)) ?_ ?_ (fun q => ?_) (fun q => ?_)
    · show vp_in (σ.1 18) 61
      rw [v1]; exact vp_in_nI (by omega) (by decide)
    · show vp_in (σ.2 26 (nI k).toNatClampNeg + nI i) 66000
      rw [e1]; exact vp_in_nI (by omega) (by decide)
    · show vp_in (σ.2 12 (σ.1 18).toNatClampNeg + σ.2 28 (σ.2 26 (nI k).toNatClampNeg + nI i).toNatClampNeg) 6000
      rw [e2]; exact vp_in_nI (by omega) (by decide)
    · show ml_V z mX6_judge jm 174 _ [vI (σ.2 24 (σ.2 12 (σ.1 18).toNatClampNeg + σ.2 28 (σ.2 26 (nI k).toNatClampNeg + nI i).toNatClampNeg).toNatClampNeg), _] _ _ _
      rw [e2, nI_clamp (n := pr_a σ + _) (by omega)]
      refine mbjudge_174 (vp_in_nI (by omega) (by decide)) (step _ _ ?_)
      rw [nI_clamp (by omega), jg_g, if_neg (fun u => by rw [if_pos u] at q; exact absurd q (by decide))]
      rfl
    · show ml_V z mX6_judge jm 140 _ [vI (σ.2 24 (σ.2 12 (σ.1 18).toNatClampNeg + σ.2 28 (σ.2 26 (nI k).toNatClampNeg + nI i).toNatClampNeg).toNatClampNeg), _] _ _ _
      rw [e2, nI_clamp (n := pr_a σ + _) (by omega)]
      have hm1 : many = true := Decidable.byContradiction fun u => q (by rw [if_neg u])
      obtain ⟨h3, f, hf, e3, e4⟩ := hmany hm1
      obtain ⟨b9, i9, o9, f1, f2, f3, f4, f5⟩ := hnod f hf
      have hmo : m = o9 := (nI_eq (by omega) (by omega)).1 (e4.symm.trans f3)
      have ef : σ.2 33 (nI b).toNatClampNeg = nI f := by rw [nI_clamp (by omega), e3]
      have eg : σ.2 12 (σ.2 33 (nI b).toNatClampNeg).toNatClampNeg + σ.2 13 (σ.2 33 (nI b).toNatClampNeg).toNatClampNeg + nI i = nI (b9 + i9 + i) := by rw [ef, nI_clamp (n := f) (by omega), f1, f2, nI_add, nI_add]
      refine mbjudge_140 (vp_in_nI (by omega) (by decide)) ?_ ?_ ?_ (step _ _ ?_)
      · show vp_in (σ.2 33 (nI b).toNatClampNeg) 61
        rw [ef]; exact vp_in_nI (by omega) (by decide)
      · show vp_in (σ.2 33 (nI b).toNatClampNeg) 60
        rw [ef]; exact vp_in_nI (by omega) (by decide)
      · show vp_in (σ.2 12 (σ.2 33 (nI b).toNatClampNeg).toNatClampNeg + σ.2 13 (σ.2 33 (nI b).toNatClampNeg).toNatClampNeg + nI i) 6000
        rw [eg]; exact vp_in_nI (by omega) (by decide)
      · show σ.2 24 (σ.2 12 (σ.2 33 (nI b).toNatClampNeg).toNatClampNeg + σ.2 13 (σ.2 33 (nI b).toNatClampNeg).toNatClampNeg + nI i).toNatClampNeg = _
        rw [eg, nI_clamp (by omega), jg_g, if_pos hm1, e3, jg_n, jg_n, jg_n, nI_clamp (n := f) (by omega), f1, f2, nI_clamp (n := b9) (by omega), nI_clamp (n := i9) (by omega)]
theorem judge_cl {p : Nat} {A : Nat → Int32} (hJ : pj_V n σ) (hpw : pw σ p (b + 1)) (hb : b < 5000) (hd : 7 ≤ jm.1) (h1 : 1 ≤ jm.2.1) : ∀ M C e E, e + M = b + 1 → p ≤ e → (∀ q, p ≤ q → q < e → jq σ (C q)) →
    (∀ kd, jg_cl σ M C e = .inl kd → ∀ σ', md_px σ σ' → jm.2.2.2 kd (σ.2 25 k) σ') →
    (∀ C' E, jg_cl σ M C e = .inr C' → (∀ q, p ≤ q → q ≤ b → jq σ (C' q)) → ml_V z mX6_judge jm 223 [(0, vR (some z.2.1)), (1, vI (nI k)), (2, vI (nI b)), (3, vI (nI m))] [] (jg_st σ k A C') E jm.2.1) →
    ml_V z mX6_judge jm 205 [(0, vR (some z.2.1)), (1, vI (nI k)), (2, vI (nI b)), (3, vI (nI m)), (5, vI (nI e))] [] (jg_st σ k A C) E jm.2.1 := by
  intro M
  induction M with
  | zero =>
    intro C e E he hp hA hX hK
    refine mbjudge_205 (fun _ => hK C _ rfl (fun q q1 q2 => hA q q1 (by omega))) (fun q => absurd (nI_lt (by omega) (by omega)) q)
  | succ M ih =>
    intro C e E he hp hA hX hK
    refine mbjudge_205 (fun q => absurd ((nI_ltI (by omega) (by omega)).1 q) (by omega)) (fun _ => ?_)
    have hn := hpw e hp (by omega)
    refine mbjudge_211 (X6_lookAtClock_C (n := n) (d := 6) (e := e) (σ := jg_st σ k A C) hJ.c (by omega) hn.2 (fun q q1 q2 => hA q (Nat.le_trans hn.1 q2) q1) (Nat.le_refl 6)) hd h1 (ml_kr0 fun σ' ⟨t, ht, hσ⟩ => ?_) (fun kd pl σ' ⟨g1, g2, g3⟩ => ?_)
    · have ht' : jc σ C e (kls σ e) = .inr t := ht
      subst hσ
      unfold jg_st
      rw [ml_saA_up]
      refine mbjudge_217 ?_
      rw [nI_1]
      have ej : jg_cl σ (M + 1) C e = jg_cl σ M (jg_up C e t) (e + 1) := by
        rw [jg_cl, ht']
      rw [ej] at hX hK
      have h01 : jq σ t := jc_q hJ.1 (hn.2.kl (by omega)).2.2 (fun q hq => by
        have := (pw_k_mem _ _ (hn.2.kl (by omega)).2.1).2 q hq
        exact hA q (Nat.le_trans hn.1 this.1) this.2) ht'
      refine ih (jg_up C e t) (e + 1) _ (by omega) (by omega) (fun q q1 q2 => ?_) hX hK
      unfold jg_up
      split
      · exact h01
      · exact hA q q1 (by omega)
    · have g1' : jc σ C e (kls σ e) = .inl kd := g1
      rw [g2, g3]
      refine hX kd ?_ _ jg_px
      rw [jg_cl, g1']
theorem judge_lc {l : Nat} {A C : Nat → Int32} (hJ : pj_V n σ) (hl : l + m < 5000) (hk : k < 5000) (h26 : σ.2 26 k = nI l) (hpl : pl_ok σ l (l + m)) (hd : 6 ≤ jm.1) (h1 : 1 ≤ jm.2.1) : ∀ M i c E, i + M = m →
    (∀ kd, jg_lc σ l M i c = .inl kd → ∀ σ', md_px σ σ' → jm.2.2.2 kd (σ.2 25 k) σ') →
    (∀ t, jg_lc σ l M i c = .inr t → ∀ G, jm.2.2.1 none (jg_st σ k A C) G) →
    ml_V z mX6_judge jm 234 [(0, vR (some z.2.1)), (1, vI (nI k)), (3, vI (nI m)), (5, vI c), (6, vI (nI i))] [] (jg_st σ k A C) E jm.2.1 := by
  have hV := hJ.1
  obtain ⟨v1, v2, v3, v4, v5, v6, v7, v8, v9⟩ := hV.N
  intro M
  induction M with
  | zero =>
    intro i c E he hX hK
    refine mbjudge_234 (fun _ => mbjudge_272 (fun G _ => hK c rfl G)) (fun q => absurd ((nI_leI (by omega) (by omega)).2 (by omega)) q)
  | succ M ih =>
    intro i c E he hX hK
    have hv := jg_md hpl v4 (j := l + i) (by omega) (by omega)
    have e1 : σ.2 26 (nI k).toNatClampNeg + nI i = nI (l + i) := by rw [nI_clamp (by omega), h26, nI_add]
    refine mbjudge_234 (fun q => absurd ((nI_leI (by omega) (by omega)).1 q) (by omega)) (fun _ => ?_)
    refine mbjudge_240 (vp_in_nI (by omega) (by decide)) ?_ (by
      show ml_C z mX6_clockOfVariable _ _ [_, vI (σ.2 28 (σ.2 26 (nI k).toNatClampNeg + nI i).toNatClampNeg)] _ _ _
      rw [e1, nI_clamp (n := l + i) (by omega), hv.1]
      exact X6_clockOf_C (d := 5) (n := n) (σ := jg_st σ k A C) hJ.c (by show pr_a σ + _ < _; omega)) hd (Nat.zero_le _) (ml_krv fun σ' g => ?_) ml_no
    · show vp_in (σ.2 26 (nI k).toNatClampNeg + nI i) 66000
      rw [e1]; exact vp_in_nI (by omega) (by decide)
    · subst g
      refine mbjudge_261 (X6_together_C (Nat.le_refl 5)) hd h1 (ml_kr fun v σ' ⟨c2, g1, g2, g3⟩ => ?_) (fun kd pl σ' ⟨g1, g2, g3⟩ => ?_)
      · have g1' : jc_two c (jc_v σ (jg_v σ (l + i))) = .inr c2 := g1
        subst g2 g3
        refine mbjudge_264 ?_
        rw [nI_1]
        have ej : jg_lc σ l (M + 1) i c = jg_lc σ l M (i + 1) c2 := by rw [jg_lc, g1']
        rw [ej] at hX hK
        exact ih (i + 1) c2 _ (by omega) hX hK
      · have g1' : jc_two c (jc_v σ (jg_v σ (l + i))) = .inl kd := g1
        rw [g2, g3]
        exact hX kd (by rw [jg_lc, g1']) _ jg_px
end
