/-! judge beside the parser's state; a node's equations -/
set_option maxRecDepth 100000
theorem jg_ty_nz {σ : MS} {b o : Nat} : ∀ M A e, jg_ty (lx_nz σ) b o M A e = jg_ty σ b o M A e := by
  intro M
  induction M with
  | zero => intro A e; rfl
  | succ M ih =>
    intro A e
    have h : jt (lx_nz σ) A e (kls (lx_nz σ) e) (if e = b then o else 1) = jt σ A e (kls σ e) (if e = b then o else 1) := rfl
    rw [jg_ty, jg_ty, h]
    split
    · rfl
    · exact ih _ _
theorem jg_cl_nz {σ : MS} : ∀ M A e, jg_cl (lx_nz σ) M A e = jg_cl σ M A e := by
  intro M
  induction M with
  | zero => intro A e; rfl
  | succ M ih =>
    intro A e
    have h : jc (lx_nz σ) A e (kls (lx_nz σ) e) = jc σ A e (kls σ e) := rfl
    rw [jg_cl, jg_cl, h]
    split
    · rfl
    · exact ih _ _
theorem jg_lt_nz {σ : MS} {g : Nat → Int32} {l : Nat} : ∀ M i, jg_lt (lx_nz σ) g l M i = jg_lt σ g l M i := by
  intro M
  induction M with
  | zero => intro i; rfl
  | succ M ih =>
    intro i
    rw [jg_lt, jg_lt, ih]
    rfl
theorem jg_lc_nz {σ : MS} {l : Nat} : ∀ M i c, jg_lc (lx_nz σ) l M i c = jg_lc σ l M i c := by
  intro M
  induction M with
  | zero => intro i c; rfl
  | succ M ih =>
    intro i c
    have h : jc_two c (jc_v (lx_nz σ) (jg_v (lx_nz σ) (l + i))) = jc_two c (jc_v σ (jg_v σ (l + i))) := rfl
    rw [jg_lc, jg_lc, h]
    split
    · rfl
    · exact ih _ _
theorem jg_st_nz {σ : MS} {k : Nat} {A C : Nat → Int32} : jg_st (lx_nz σ) k A C = lx_nz (jg_st σ k A C) := by
  unfold jg_st
  have e1 : lx_nz (ml_saA (ml_saA (ml_sf σ 42 (σ.2 25 k)) 41 A) 36 C) = ml_saA (ml_saA (lx_nz (ml_sf σ 42 (σ.2 25 k))) 41 A) 36 C := rfl
  rw [e1, lx_nz_sf (by omega)]
  rfl
theorem jg_inr {S S' : MS} {k : Nat} (h : jg S k = .inr S') : ∃ A C, S' = jg_st S k A C := by
  unfold jg jg0 at h
  split at h
  · cases h
  split at h
  · split at h
    · cases h
    split at h
    · cases h
    · exact ⟨_, _, (Sum.inr.inj h).symm⟩
  · cases h
theorem jg_nz {σ : MS} {k : Nat} : jg (lx_nz σ) k = match jg σ k with
    | .inl kd => .inl kd
    | .inr S' => .inr (lx_nz S') := by
  have e0 : ∀ p b l m many, jg0 (lx_nz σ) k p b l m many = match jg0 σ k p b l m many with
    | .inl kd => .inl kd
    | .inr S' => .inr (lx_nz S') := by
    intro p b l m many
    rw [jg0, jg0, jg_ty_nz]
    have e1 : (lx_nz σ).2 = σ.2 := rfl
    rw [e1]
    generalize jg_ty σ b (if many = true then m else 1) (b + 1 - p) (σ.2 41) p = x
    cases x with
    | inl kd => rfl
    | inr A =>
      have e2 : jg_g (lx_nz σ) A many b = jg_g σ A many b := rfl
      simp only [jg_lt_nz, jg_cl_nz, jg_lc_nz, e2, jg_st_nz]
      split
      · generalize jg_cl σ (b + 1 - p) (σ.2 36) p = y
        cases y with
        | inl kd => rfl
        | inr C =>
          dsimp only
          generalize jg_lc σ l m 0 (C b) = w
          cases w <;> rfl
      · rfl
  exact e0 _ _ _ _ _
section
variable {z : MZ} {n k d : Nat} {T : Nat → Int32}
theorem ps_judge {c0 c p p' l l' : Nat} {S σ : MS} (hs : ps n c0 S σ) (hT : S.2 0 = T) (hJ : pj_V n S) (hW : pe_W T n S k c p p' l l') (hp : p' ≤ 5000) (hl : l' < 5000) (hk : k < 4999) (hd : 8 ≤ d) : ml_C z mX6_judge d 1 [vR (some z.2.1), vI (nI k)] σ (fun v σ' _ => v = none ∧ ∃ S', jg S k = .inr S' ∧ ps n c0 S' σ') (fun kd pl σ' => jg S k = .inl kd ∧ pl = nI c ∧ md_px S (lx_nz σ')) := by
  obtain ⟨h1, h2⟩ := hs
  subst h2 hT
  refine (X6_judge_C (n := n) (c := c) (p := p) (p' := p') (l := l) (l' := l') (σ := σ) hJ hW hp hl hk hd).mono (fun v σ' _ ⟨a, b⟩ => ⟨a, lx_nz σ', ?_, ?_, rfl⟩) (fun kd pl σ' ⟨a, b, e⟩ => ⟨by rw [jg_nz, a], b, ?_⟩)
  · rw [jg_nz, b]
  · obtain ⟨A, C, rfl⟩ := jg_inr b
    exact h1.cg (fun q hq => by show (if q = 42 then _ else _) = _; rw [if_neg (by omega)]) rfl
  · refine ⟨⟨fun q hq => ?_, e.1.2⟩, fun q hq => e.2 q hq⟩
    have h5 : ∀ τ : MS, (lx_nz τ).1 q = τ.1 q := fun τ => by
      show (if 5 ≤ q ∧ q ≤ 9 then 0 else τ.1 q) = τ.1 q
      rw [if_neg (by omega)]
    rw [h5, h5]
    exact e.1.1 q hq
end
theorem pj_V.qs {n : Nat} {S S' : MS} (h : pj_V n S) (hV : pe_V n S') (hs : pq_same S S') : pj_V n S' := by
  refine ⟨hV, fun v hv => ?_, fun f hf => ?_⟩
  · rw [hs.2 24 (by omega) (by omega) (by omega) (by omega) (by omega)]
    exact h.2.1 v (by rw [← hs.v]; exact hv)
  · rw [hs.2 12 (by omega) (by omega) (by omega) (by omega) (by omega), hs.2 13 (by omega) (by omega) (by omega) (by omega) (by omega), hs.2 14 (by omega) (by omega) (by omega) (by omega) (by omega), hs.v]
    exact h.2.2 f (by rw [← hs.N]; exact hf)
theorem nd_C {T : Nat → Int32} {n f0 f c5 c6 e6 b k N : Nat} {S3 S6 : MS} (h : nd_M n c5 b k N S3) (h2 : pe_eqs T n f0 f c5 S3 = some (.inr (e6, c6, S6))) :
    nd_M n c6 b (pr_k S6) N S6 ∧ c5 + 1 ≤ c6 ∧ pq_same S3 S6 ∧ k < pr_k S6 ∧ lx_isW T n c6 "tel" ∧ nd_E T n k S6 := by
  obtain ⟨hE, hJ, hB, rfl, rfl, i, o, m1, m2, m3, m4, m5, m6, m7⟩ := h
  obtain ⟨-, b2, b3, b4, b5, b6, b7, b8⟩ := pe_eqs_ok f c5 S3 e6 c6 S6 (pr_k S3) h2 hE hB (Nat.le_refl _) (fun k a b => by omega)
  refine ⟨⟨b2, hJ.qs b2.1 b5, b3, rfl, b5.N, i, o, m1, m2, ?_, ?_, ?_, ?_, ?_⟩, b4, b5, b6, b7, b8⟩
  · rw [b5.2 12 (by omega) (by omega) (by omega) (by omega) (by omega)]; exact m3
  · rw [b5.2 13 (by omega) (by omega) (by omega) (by omega) (by omega)]; exact m4
  · rw [b5.2 14 (by omega) (by omega) (by omega) (by omega) (by omega)]; exact m5
  · rw [b5.v]; exact m6
  · rw [b5.2 12 (by omega) (by omega) (by omega) (by omega) (by omega), b5.v]; exact m7
theorem pj_V.n4 {n : Nat} {S : MS} (h : pj_V n S) : pj_V n (nd_4 S) := h
theorem nd_E.n4 {T : Nat → Int32} {n k : Nat} {S : MS} (h : nd_E T n k S) : nd_E T n k (nd_4 S) := h
theorem pj_V.js {n k : Nat} {S : MS} {A C : Nat → Int32} (h : pj_V n S) : pj_V n (jg_st S k A C) := h
theorem nd_E.js {T : Nat → Int32} {n k k0 : Nat} {S : MS} {A C : Nat → Int32} (h : nd_E T n k0 S) : nd_E T n k0 (jg_st S k A C) := h
