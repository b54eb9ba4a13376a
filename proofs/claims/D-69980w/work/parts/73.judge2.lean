/-! the walk of judge -/
set_option maxRecDepth 100000
theorem lx_sign_40 {b c : Int32} (h : lx_sign b c = 40) : b = 40 := by
  unfold lx_sign at h
  split at h
  · exact h
  split at h
  · rename_i g
    subst g
    split at h <;> exact absurd h (by decide)
  split at h
  · rename_i g
    subst g
    split at h
    · exact absurd h (by decide)
    · split at h <;> exact absurd h (by decide)
  split at h
  · rename_i g
    subst g
    split at h <;> exact absurd h (by decide)
  split at h
  · rename_i g
    subst g
    split at h <;> exact absurd h (by decide)
  · first | exact h | exact absurd h (by decide)
theorem lx_kind_40 {T : Nat → Int32} {n c : Nat} (hc : c < n) : lx_kind T n c = 40 ↔ T c = 40 := by
  unfold lx_kind
  rw [if_neg (by omega)]
  constructor
  · intro h
    split at h
    · split at h <;> exact absurd h (by decide)
    split at h
    · split at h <;> exact absurd h (by decide)
    · exact lx_sign_40 h
  · intro h
    rw [h, if_neg (by decide), if_neg (by decide)]
    rfl
section
variable {z : MZ} {jm : MJ} {n k b m d : Nat} {many : Bool} {σ : MS}
theorem pj_V.t {A : Nat → Int32} {x : Int32} (h : pj_V n σ) : pj_V n (ml_saA (ml_sf σ 42 x) 41 A) := h
theorem pj_V.c {A C : Nat → Int32} {x : Int32} (h : pj_V n σ) : pe_V n (ml_saA (ml_saA (ml_sf σ 42 x) 41 A) 36 C) := h.1
theorem jg_px {A C : Nat → Int32} {x : Int32} : md_px σ (ml_saA (ml_saA (ml_sf σ 42 x) 41 A) 36 C) := ⟨⟨fun q h => by show (if q = 42 then _ else _) = _; rw [if_neg (by omega)], rfl⟩, fun q h => by funext j; rw [ml_saA_a, if_neg (by omega), ml_saA_a, if_neg (by omega)]; rfl⟩
theorem jg_px1 {A : Nat → Int32} {x : Int32} : md_px σ (ml_saA (ml_sf σ 42 x) 41 A) := ⟨⟨fun q h => by show (if q = 42 then _ else _) = _; rw [if_neg (by omega)], rfl⟩, fun q h => by funext j; rw [ml_saA_a, if_neg (by omega)]; rfl⟩
theorem judge_ty {p : Nat} (hJ : pj_V n σ) (hpw : pw σ p (b + 1)) (hb : b < 5000) (hm : m < 5000) (hd : 7 ≤ jm.1) (h1 : 1 ≤ jm.2.1) : ∀ M A e E, e + M = b + 1 → p ≤ e → (∀ q, p ≤ q → q < e → A q = 0 ∨ A q = 1) →
    (∀ kd, jg_ty σ b (if many = true then m else 1) M A e = .inl kd → ∀ σ', md_px σ σ' → jm.2.2.2 kd (σ.2 25 k) σ') →
    (∀ A' E, jg_ty σ b (if many = true then m else 1) M A e = .inr A' → (∀ q, p ≤ q → q ≤ b → A' q = 0 ∨ A' q = 1) → ml_V z mX6_judge jm 96 [(0, vR (some z.2.1)), (1, vI (nI k)), (2, vI (nI b)), (3, vI (nI m)), (4, vI (if many = true then 1 else 0))] [] (ml_saA (ml_sf σ 42 (σ.2 25 k)) 41 A') E jm.2.1) →
    ml_V z mX6_judge jm 62 [(0, vR (some z.2.1)), (1, vI (nI k)), (2, vI (nI b)), (3, vI (nI m)), (4, vI (if many = true then 1 else 0)), (5, vI (nI e))] [] (ml_saA (ml_sf σ 42 (σ.2 25 k)) 41 A) E jm.2.1 := by
  intro M
  induction M with
  | zero =>
    intro A e E he hp hA hX hK
    refine mbjudge_62 (fun _ => hK A _ rfl (fun q q1 q2 => hA q q1 (by omega))) (fun q => absurd (nI_lt (by omega) (by omega)) q)
  | succ M ih =>
    intro A e E he hp hA hX hK
    refine mbjudge_62 (fun q => absurd ((nI_ltI (by omega) (by omega)).1 q) (by omega)) (fun _ => ?_)
    have step : ∀ E o, o = (if e = b then (if many = true then m else 1) else 1) → ml_V z mX6_judge jm 87 [(0, vR (some z.2.1)), (1, vI (nI k)), (2, vI (nI b)), (3, vI (nI m)), (4, vI (if many = true then 1 else 0)), (5, vI (nI e))] [vI (nI o), vI (nI e), vR (some z.2.1)] (ml_saA (ml_sf σ 42 (σ.2 25 k)) 41 A) E jm.2.1 := by
      intro E o ho
      have hn := hpw e hp (by omega)
      have ho2 : o < 5000 := by rw [ho]; split <;> (try split) <;> omega
      refine mbjudge_87 (X6_look_C (n := n) (d := 6) (e := e) (outs := o) hJ.t (by omega) hn.2 (fun q q1 q2 => hA q (Nat.le_trans hn.1 q2) q1) ho2 (Nat.le_refl 6)) hd h1 (ml_kr0 fun σ' ⟨t, ht, hσ⟩ => ?_) (fun kd pl σ' ⟨g1, g2, g3⟩ => ?_)
      · have ht' : jt σ A e (kls σ e) o = .inr t := ht
        subst hσ
        rw [ml_saA_up]
        refine mbjudge_90 ?_
        rw [nI_1]
        have ej : jg_ty σ b (if many = true then m else 1) (M + 1) A e = jg_ty σ b (if many = true then m else 1) M (jg_up A e t) (e + 1) := by
          rw [jg_ty, ← ho, ht']
        rw [ej] at hX hK
        have h01 : t = 0 ∨ t = 1 := jt_01 hJ (hn.2.kl (by omega)).2.2 (fun q hq => by
          have := (pw_k_mem _ _ (hn.2.kl (by omega)).2.1).2 q hq
          exact hA q (Nat.le_trans hn.1 this.1) this.2) ht'
        refine ih (jg_up A e t) (e + 1) _ (by omega) (by omega) (fun q q1 q2 => ?_) hX hK
        unfold jg_up
        split
        · exact h01
        · exact hA q q1 (by omega)
      · have g1' : jt σ A e (kls σ e) o = .inl kd := g1
        rw [g2, g3]
        refine hX kd ?_ _ jg_px1
        rw [jg_ty, ← ho, g1']
    refine mbjudge_68 (fun q => mbjudge_86 (step _ 1 ?_)) (fun q => mbjudge_77 (fun q2 => mbjudge_86 (step _ 1 ?_)) (fun q2 => mbjudge_82 (step _ m ?_)))
    · rw [if_neg (fun u => q (by rw [u]))]
    · rw [if_pos ((nI_eq (by omega) (by omega)).1 q), if_neg (fun u => by rw [if_pos u] at q2; exact absurd q2 (by decide))]
    · rw [if_pos ((nI_eq (by omega) (by omega)).1 q), if_pos (Decidable.byContradiction fun u => q2 (by rw [if_neg u]))]
end
