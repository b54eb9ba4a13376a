/-! countParts -/
set_option maxRecDepth 100000
def cp_m (x : Int32) : Int32 := if x < 100000 then x else 100000
def cp_e (S : MS) : Nat → Nat → Int32 → Int32
  | 0, _, x => x
  | M + 1, e, x => cp_e S M (e + 1) (if S.2 32 e = 3 then cp_m (x + S.2 48 (S.2 33 e).toNatClampNeg) else x)
def cp_q (S : MS) (k : Nat) (x : Int32) : Int32 := cp_e S (jg_n (S.2 27 k) + 1 - jg_n (S.2 29 k)) (jg_n (S.2 29 k)) (cp_m (x + 1 + S.2 38 (jg_n (S.2 27 k))))
def cp_all (S : MS) : Nat → Nat → Int32 → Int32
  | 0, _, x => x
  | M + 1, k, x => cp_all S M (k + 1) (cp_q S k x)
def cp_H (S : MS) (k p b : Nat) : Prop := S.2 29 k = nI p ∧ S.2 27 k = nI b ∧ p ≤ b ∧ b < 5000 ∧ k < 5000 ∧ ∀ e, p ≤ e → e ≤ b → S.2 32 e = 3 → ∃ g, g < 60 ∧ S.2 33 e = nI g
section
variable {z : MZ} {jm : MJ} {σ : MS} {f k p b : Nat}
theorem count_e (hd : 1 ≤ jm.1) (hH : cp_H σ k p b) : ∀ M e x E, e + M = b + 1 → p ≤ e → (∀ E, ml_V z mX6_countParts jm 100 [(0, vR (some z.2.1)), (1, vI (nI f)), (2, vI (cp_e σ M e x)), (3, vI (nI k))] [] σ E jm.2.1) → ml_V z mX6_countParts jm 51 [(0, vR (some z.2.1)), (1, vI (nI f)), (2, vI x), (3, vI (nI k)), (4, vI (nI e))] [] σ E jm.2.1 := by
  obtain ⟨h1, h2, h3, h4, h5, h6⟩ := hH
  have ck : (nI k).toNatClampNeg = k := nI_clamp (by omega)
  have vk : vp_in (nI k) 17000 := vp_in_nI (by omega) (by decide)
  intro M
  induction M with
  | zero =>
    intro e x E he hp K
    exact mbcountParts_51 vk (fun _ => K _) (fun q => absurd (by rw [ck, h2]; exact nI_lt (by omega) (by omega)) q)
  | succ M ih =>
    intro e x E he hp K
    have ce : (nI e).toNatClampNeg = e := nI_clamp (by omega)
    have vi : vp_in (nI e) 66000 := vp_in_nI (by omega) (by decide)
    refine mbcountParts_51 vk (fun q => by
      rw [ck, h2] at q
      exact absurd ((nI_ltI (by omega) (by omega)).1 q) (by omega)) (fun _ => ?_)
    refine mbcountParts_62 vi (fun q => ?_) (fun q => ?_)
    · rw [ce] at q
      refine mbcountParts_94 ?_
      rw [nI_1]
      refine ih (e + 1) x _ (by omega) (by omega) ?_
      rw [cp_e, if_neg q] at K
      exact K
    · rw [ce] at q
      obtain ⟨g, g1, g2⟩ := h6 e hp (by omega) q
      refine mbcountParts_73 vi (by rw [ce, g2]; exact vp_in_nI (by omega) (by decide)) hd ?_
      refine mbcountParts_93 (mbcountParts_94 ?_)
      rw [nI_1, ce]
      refine ih (e + 1) _ _ (by omega) (by omega) ?_
      rw [cp_e, if_pos q] at K
      exact K
theorem X6_countParts_C {d q q' : Nat} (hd : 1 ≤ d) (hf : f < 60) (h15 : σ.2 15 f = nI q) (h15' : σ.2 15 (f + 1) = nI q') (hqq : q ≤ q') (hq5 : q' ≤ 5000) (hH : ∀ k, q ≤ k → k < q' → ∃ p b, cp_H σ k p b) : ml_C z mX6_countParts d 0 [vR (some z.2.1), vI (nI f)] σ (fun v σ' _ => v = none ∧ σ' = ml_sa σ 48 f (cp_all σ (q' - q) q 0)) (fun _ _ _ => False) := by
  refine ml_C_of (by decide) rfl (Nat.le_of_ble_eq_true rfl) ?_
  have cf : (nI f).toNatClampNeg = f := nI_clamp (by omega)
  have e15 : σ.2 15 (nI f + 1).toNatClampNeg = nI q' := by rw [nI_1, nI_clamp (by omega), h15']
  refine mbcountParts_0 (vp_in_nI (by omega) (by decide)) ?_
  rw [cf, h15]
  have lp : ∀ M k x E, k + M = q' → q ≤ k → cp_all σ M k x = cp_all σ (q' - q) q 0 → ml_V z mX6_countParts (d, 0, (fun v σ' _ => v = none ∧ σ' = ml_sa σ 48 f (cp_all σ (q' - q) q 0)), fun _ _ _ => False) 9 [(0, vR (some z.2.1)), (1, vI (nI f)), (2, vI x), (3, vI (nI k))] [] σ E 0 := by
    intro M
    induction M with
    | zero =>
      intro k x E hk hq he
      refine mbcountParts_9 (by rw [nI_1]; exact vp_in_nI (by omega) (by decide)) (fun _ => mbcountParts_106 (vp_in_nI (by omega) (by decide)) (fun G => ⟨rfl, ?_⟩)) (fun q => absurd (by rw [e15]; exact (nI_leI (by omega) (by omega)).2 (by omega)) q)
      rw [cf, ← he]
      rfl
    | succ M ih =>
      intro k x E hk hq he
      obtain ⟨p, b, hH1⟩ := hH k hq (by omega)
      obtain ⟨h1, h2, h3, h4, h5, h6⟩ := id hH1
      have ck : (nI k).toNatClampNeg = k := nI_clamp (by omega)
      have cb : (nI b).toNatClampNeg = b := nI_clamp (by omega)
      have vk : vp_in (nI k) 17000 := vp_in_nI (by omega) (by decide)
      refine mbcountParts_9 (by rw [nI_1]; exact vp_in_nI (by omega) (by decide)) (fun q => by
        rw [e15] at q
        exact absurd ((nI_leI (by omega) (by omega)).1 q) (by omega)) (fun _ => ?_)
      refine mbcountParts_21 vk (by rw [ck, h2]; exact vp_in_nI (by omega) (by decide)) hd ?_
      refine mbcountParts_42 vk ?_
      rw [ck, h1, h2, cb]
      have eq : cp_q σ k x = cp_e σ (b + 1 - p) p (cp_m (x + 1 + σ.2 38 b)) := by
        rw [cp_q, h1, h2, jg_n, jg_n, cb, nI_clamp (n := p) (by omega)]
      refine count_e (by exact hd) hH1 (b + 1 - p) p _ _ (by omega) (Nat.le_refl p) (fun E => ?_)
      refine mbcountParts_100 ?_
      rw [nI_1]
      refine ih (k + 1) _ _ (by omega) (by omega) ?_
      rw [← he, cp_all, eq]
      rfl
  exact lp (q' - q) q 0 _ (by omega) (Nat.le_refl q) rfl
end
