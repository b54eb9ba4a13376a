/-! the contract of judge -/
set_option maxRecDepth 100000
theorem jg_ty_out {S : MS} {b outs : Nat} {A' : Nat → Int32} : ∀ M A e, e ≤ b → b < e + M → jg_ty S b outs M A e = .inr A' → ∃ A1 t, jt S A1 b (kls S b) outs = .inr t := by
  intro M
  induction M with
  | zero => intro A e h1 h2; omega
  | succ M ih =>
    intro A e h1 h2 h
    rw [jg_ty] at h
    split at h
    · cases h
    · rename_i t ht
      rcases Nat.eq_or_lt_of_le h1 with u | u
      · subst u
        rw [if_pos rfl] at ht
        exact ⟨A, t, ht⟩
      · exact ih _ (e + 1) u (by omega) h
section
variable {z : MZ} {n k d : Nat} {σ : MS}
theorem X6_judge_C {c p p' l l' : Nat} (hJ : pj_V n σ) (hW : pe_W (σ.2 0) n σ k c p p' l l') (hp : p' ≤ 5000) (hl : l' < 5000) (hk : k < 4999) (hd : 8 ≤ d) : ml_C z mX6_judge d 1 [vR (some z.2.1), vI (nI k)] σ (fun v σ' _ => v = none ∧ jg σ k = .inr σ') (fun kd pl σ' => jg σ k = .inl kd ∧ pl = nI c ∧ md_px σ σ') := by
  obtain ⟨w1, w2, w3, w4, w5, w6, w7, w8, w9, w10, w11, w12, w13⟩ := hW
  have hJ' := hJ
  obtain ⟨hV, h01, hnod⟩ := hJ'
  obtain ⟨v1, v2, v3, v4, v5, v6, v7, v8, v9⟩ := hV.N
  obtain ⟨b, rfl⟩ : ∃ b, p' = b + 1 := ⟨p' - 1, by omega⟩
  obtain ⟨m, rfl⟩ : ∃ m, l' = l + m := ⟨l' - l, by omega⟩
  rw [Nat.add_sub_cancel] at w4 w9 w12
  have hn5 := hV.1
  have ck : (nI k).toNatClampNeg = k := nI_clamp (by omega)
  have ck1 : (nI k + 1).toNatClampNeg = k + 1 := by rw [nI_1, nI_clamp (by omega)]
  have cc : (nI c).toNatClampNeg = c := nI_clamp (by omega)
  have ej : jg σ k = jg0 σ k p b l m (decide (σ.2 0 c = 40)) := by
    rw [jg, w1, w3, w4, w6, w7, jg_n, jg_n, jg_n, jg_n, jg_n, cc, nI_clamp (n := p) (by omega), nI_clamp (n := b) (by omega), nI_clamp (n := l) (by omega), nI_clamp (n := l + m) (by omega), show l + m - l = m by omega]
  rw [ej]
  refine ml_C_of (by decide) rfl (Nat.le_of_ble_eq_true rfl) ?_
  have main : ∀ E (many : Bool), decide (σ.2 0 c = 40) = many → ml_V z mX6_judge (d, 1, (fun v σ' _ => v = none ∧ jg0 σ k p b l m (decide (σ.2 0 c = 40)) = .inr σ'), (fun kd pl σ' => jg0 σ k p b l m (decide (σ.2 0 c = 40)) = .inl kd ∧ pl = nI c ∧ md_px σ σ')) 52 [(0, vR (some z.2.1)), (1, vI (nI k)), (2, vI (nI b)), (3, vI (nI m))] [vI (if many = true then 1 else 0)] (ml_sf σ 42 (nI c)) E 1 := by
    intro E many hmm
    rw [hmm]
    refine mbjudge_52 (vp_in_nI (by omega) (by decide)) ?_
    rw [ml_sf_a, ck, w3]
    have e0 : ml_saA (ml_sf σ 42 (nI c)) 41 (σ.2 41) = ml_sf σ 42 (nI c) := ml_saA_id
    rw [← e0, ← w1]
    have hX : ∀ kd, jg0 σ k p b l m many = .inl kd → ∀ σ', md_px σ σ' → jg0 σ k p b l m many = .inl kd ∧ σ.2 25 k = σ.2 25 k ∧ md_px σ σ' := fun kd h σ' h2 => ⟨h, rfl, h2⟩
    have hbp : b + 1 - p + p = b + 1 := by omega
    refine judge_ty (n := n) (p := p) (many := many) hJ w10 (by omega) (by omega) (by show 7 ≤ d; omega) (Nat.le_refl 1) (b + 1 - p) (σ.2 41) p _ (by omega) (Nat.le_refl p) (fun q a b => by omega) (fun kd h σ' h2 => hX kd (by rw [jg0, h]) σ' h2) (fun A E hA hA1 => ?_)
    refine mbjudge_96 ?_
    have j1 : jg0 σ k p b l m many = if jg_lt σ (jg_g σ A many b) l m 0 = true then match jg_cl σ (b + 1 - p) (σ.2 36) p with
      | .inl kd => .inl kd
      | .inr C => match jg_lc σ l m 0 (C b) with
        | .inl kd => .inl kd
        | .inr _ => .inr (jg_st σ k A C)
      else .inl 4 := by rw [jg0, hA]; rfl
    rw [show (0 : Int32) = nI 0 from rfl]
    refine judge_lt (n := n) hJ (by omega) (by omega) (by omega) w6 w11 (fun hmy => ?_) (by show 6 ≤ d; omega) (Nat.le_refl 1) m 0 _ (by omega) (fun h σ' h2 => hX 4 (by rw [j1, h]; rfl) σ' h2) (fun h E => ?_)
    · rw [hmy] at hmm
      have h40 := of_decide_eq_true hmm
      have h3 := w12 ((lx_kind_40 w2).2 h40)
      have hn := w10 b (by omega) (by omega)
      have hs := (hn.2.kl (by omega)).2.2
      unfold pw_s at hs
      rw [h3] at hs
      obtain ⟨hl1, f, hf, e1⟩ : 1 ≤ (kls σ b).length ∧ ∃ f, f < pr_N σ ∧ σ.2 33 b = nI f := by
        rcases hs with ⟨a, b⟩ | ⟨a, b, -⟩ | ⟨a, b, -⟩ | ⟨a, b, f, hf, e1⟩ | ⟨a, b⟩ | ⟨a, a2, b⟩ | ⟨a, a2, b⟩ | ⟨a, b, -⟩
        · exact absurd a (by decide)
        · exact absurd a (by decide)
        · exact absurd a (by decide)
        · exact ⟨b, f, hf, e1⟩
        · exact absurd a (by decide)
        · exact absurd a (by decide)
        · exact absurd a (by decide)
        · exact absurd a (by decide)
      refine ⟨h3, f, hf, e1, ?_⟩
      obtain ⟨b9, i9, o9, f1, f2, f3, f4, f5⟩ := hnod f hf
      obtain ⟨A1, t, ht⟩ := jg_ty_out (b + 1 - p) (σ.2 41) p (by omega) (by omega) hA
      rw [hmy, if_pos rfl] at ht
      unfold jt at ht
      rw [if_pos h3, e1, nI_clamp (n := f) (by omega), f3, nI_clamp (n := o9) (by omega)] at ht
      by_cases g : (kls σ b).length = (σ.2 13 f).toNatClampNeg ∧ m = o9
      · rw [f3, g.2]
      · rw [if_neg g] at ht
        cases ht
    · rw [if_pos h] at j1
      refine mbjudge_197 (vp_in_nI (by omega) (by decide)) ?_
      rw [ck]
      have e29 : (ml_saA (ml_sf σ 42 (σ.2 25 k)) 41 A).2 29 k = nI p := w3
      rw [e29]
      have e1 : ml_saA (ml_sf σ 42 (σ.2 25 k)) 41 A = jg_st σ k A (σ.2 36) := by
        unfold jg_st
        exact (ml_saA_id (S := ml_saA (ml_sf σ 42 (σ.2 25 k)) 41 A) (k := 36)).symm
      rw [e1]
      refine judge_cl (n := n) hJ w10 (by omega) (by show 7 ≤ d; omega) (Nat.le_refl 1) (b + 1 - p) (σ.2 36) p _ (by omega) (Nat.le_refl p) (fun q a b => by omega) (fun kd h2 σ' h3 => hX kd (by rw [j1, h2]) σ' h3) (fun C E hC hC1 => ?_)
      rw [hC] at j1
      replace j1 : jg0 σ k p b l m many = match jg_lc σ l m 0 (C b) with
        | .inl kd => .inl kd
        | .inr _ => .inr (jg_st σ k A C) := j1
      refine mbjudge_223 (vp_in_nI (by omega) (by decide)) ?_
      rw [nI_clamp (n := b) (by omega), show (0 : Int32) = nI 0 from rfl]
      have ec : (jg_st σ k A C).2 36 b = C b := rfl
      rw [ec]
      exact judge_lc (n := n) hJ (by omega) (by omega) w6 w11 (by show 6 ≤ d; omega) (Nat.le_refl 1) m 0 (C b) _ (by omega) (fun kd h2 σ' h3 => hX kd (by rw [j1, h2]) σ' h3) (fun t h2 G => ⟨rfl, by rw [j1, h2]⟩)
  have em : (nI (l + m) : Int32) - nI l = nI m := by rw [← nI_add, Int32.add_comm, Int32.add_sub_cancel]
  refine mbjudge_0 (vp_in_nI (by omega) (by decide)) (by rw [nI_1]; exact vp_in_nI (by omega) (by decide)) (vp_in_nI (by omega) (by decide)) (by rw [ck, w1]; exact vp_in_nI (by omega) (by decide)) (fun q => ?_) (fun q => ?_)
  · rw [ck, w1, cc] at q
    rw [ck, ck1, w4, w6, w7, w1, em]
    refine mbjudge_51 (main _ false (decide_eq_false q))
  · rw [ck, w1, cc] at q
    rw [ck, ck1, w4, w6, w7, w1, em]
    refine mbjudge_47 (main _ true (decide_eq_true q))
end
