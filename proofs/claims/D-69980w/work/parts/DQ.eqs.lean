/-! THE COMPONENT's PARSER: a node's equations -/
set_option maxRecDepth 100000
theorem al_b_pot {n c : Nat} (h : n ≤ c) : al_b n c ≤ 10 + 2 * n - c := by
  unfold al_b al_c
  by_cases q : n < c
  · rw [if_pos q]; omega
  · rw [if_neg q, if_neg q]
    by_cases u : c = 0
    · rw [if_pos u]; omega
    · rw [if_neg u]; omega
/-- other calls with many left sides -/
abbrev qS (q : PZ) (m : Nat → Option (Nat × Nat)) : PZ := (q.1, q.2.1, q.2.2.1, q.2.2.2.1, m)
section
variable {q : PZ} {S S' S0 : MS} {X X' : Nat → Nat} {G G' G00 Gs : GH} {lo k0 c Le ce : Nat} {Mf : Nat → Option (Nat × Nat)} {Q : Nat → Nat}
theorem nd_E.lt {T : Nat → Int32} {n : Nat} (h : nd_E T n k0 S) (hp : pr_p S ≤ 5000) (hl : pr_l S ≤ 5000) : ∀ k, k0 ≤ k → k < pr_k S → jg_n (S.2 27 k) < pr_p S ∧ jg_n (S.2 26 (k + 1)) ≤ pr_l S := by
  intro k h1 h2
  obtain ⟨c, p, p', l, l', w, w2, w3⟩ := h k h1 h2
  have e1 : jg_n (S.2 27 k) = p' - 1 := by rw [w.2.2.2.1]; exact nI_clamp (by omega)
  have e2 : jg_n (S.2 26 (k + 1)) = l' := by rw [w.2.2.2.2.2.2.1]; exact nI_clamp (by omega)
  have := w.2.2.2.2.1
  omega
/-- which roots are calls with many left sides -/
def eqM (q : PZ) (Mf : Nat → Option (Nat × Nat)) (Q : Nat → Nat) (lo k0 : Nat) (S : MS) : Prop := (∀ e, lo ≤ e → Mf e = none ∨ ∃ k, k0 ≤ k ∧ k < pr_k S ∧ e = jg_n (S.2 27 k)) ∧ ∀ k, k0 ≤ k → k < pr_k S → Mf (jg_n (S.2 27 k)) = if lx_kind (rz_T q.1) (rz_n q.1) (jg_n (S.2 25 k)) = 40 then some (Q k, jg_n (S.2 26 (k + 1)) - jg_n (S.2 26 k)) else none
/-- among a node's equations; they began at S0, Gs -/
def eqI (q : PZ) (Mf : Nat → Option (Nat × Nat)) (Q : Nat → Nat) (lo k0 c : Nat) (S0 S : MS) (X : Nat → Nat) (G00 Gs G : GH) (Le ce : Nat) : Prop :=
  pst (qS q Mf) lo c S X G ∧ (pn_E (rz_n q.1) c S ∧ S.2 26 (pr_k S) = nI (pr_l S) ∧ pq_same S0 S) ∧ (lo ≤ pr_p S ∧ (∀ e, pr_p S ≤ e → Mf e = none) ∧ ∀ e, lo ≤ e → e < pr_p S → hp_kd G00 (X e) = 0) ∧ eqM q Mf Q lo k0 S ∧ (k0 ≤ pr_k S ∧ nd_E (rz_T q.1) (rz_n q.1) k0 S) ∧ eqL q Q k0 S X G00 G Le ce ∧ ce ≤ (pr_k S - k0) + (pr_k S - k0) / 2 + 10 ∧ (rx q.1 no9 G00 G ∧ rkk q.1 G00 G) ∧ rx q.1 (al_o Gs Le) Gs G ∧ rkk q.1 Gs G
theorem eqI.step {f : Nat} {r1 : PE} {v : Option WV} (hsn : sn G00) (h : eqI q Mf Q lo k0 c S0 S X G00 Gs G Le ce) (he : pe_eq (rz_T q.1) (rz_n q.1) f c S = some r1) (hP : eqP (qS q Mf) Q k0 lo c S X G00 G Le ce r1 v G') :
    v = none ∧ ∃ c' S' X' Mf' Q', r1 = .inr (0, c', S') ∧ eqI q Mf' Q' lo k0 c' S0 S' X' G00 Gs G' Le (al_c (pr_k S - k0) ce) ∧ c + 1 ≤ c' ∧ c' ≤ rz_n q.1 ∧ pr_k S' = pr_k S + 1 ∧ cb (20 * (c' - c) + al_b (pr_k S - k0) ce) G G' := by
  obtain ⟨hp, ⟨hE, hB, hs⟩, ⟨hlo, hM, hXf⟩, hMM, ⟨hk0, hW⟩, hL, hcap, ⟨f00, k00⟩, fs, ks⟩ := h
  obtain ⟨rfl, c', S', X', mv, x, e1, z1, ⟨z2, z2f⟩, z3, z4, ⟨z5, z6⟩, z7⟩ := hP
  rw [e1] at he
  obtain ⟨a1, a2, a3, a4, a5, a6, a7, a8, a9⟩ := pe_eq_ok he hE hB
  have hpp := a9.2.2.2.2.1
  have hll := a9.2.2.2.2.2.2.2.1
  have hn := a2.2.2.1
  have hc' := a2.2.1
  have b1 := a2.2.2.2.2.1
  have b2 := a2.2.2.2.2.2.2.1
  have b3 := a2.2.2.2.2.2.2.2.2.1
  have hlt := hW.lt (by omega) (by omega)
  have j27 : jg_n (S'.2 27 (pr_k S)) = pr_p S' - 1 := by rw [a9.2.2.2.1]; exact nI_clamp (by omega)
  have j25 : jg_n (S'.2 25 (pr_k S)) = c := by rw [a9.1]; exact nI_clamp (by omega)
  have j26 : jg_n (S'.2 26 (pr_k S)) = pr_l S := by rw [a9.2.2.2.2.2.1]; exact nI_clamp (by omega)
  have j26' : jg_n (S'.2 26 (pr_k S + 1)) = pr_l S' := by rw [a9.2.2.2.2.2.2.1]; exact nI_clamp (by omega)
  have hlc := hL.1.2.2.2.2.1.1
  obtain ⟨hcap2, hcap3⟩ := al_cap hlc hcap
  have l2 := hL.1.2.1
  refine ⟨rfl, c', S', X', (fun j => if j = pr_p S' - 1 then mv else Mf j), hp_u1 Q (pr_k S) x, e1, ⟨z1, ⟨a2, a3, hs.tr a5⟩, ⟨by omega, fun e he => ?_, fun e e1 e2 => ?_⟩, ⟨fun e he => ?_, fun k h1 h2 => ?_⟩, ⟨by omega, fun k h1 h2 => ?_⟩, z3, ?_, ⟨f00.tr z5 (fun y hy u => ?_), fun k hk => (z6 k hk).trans (k00 k hk)⟩, fs.tr z5 (fun y hy u => ?_), fun k hk => (z6 k hk).trans (ks k hk)⟩, a4, hc', a6, z7⟩
  · show (if e = pr_p S' - 1 then mv else Mf e) = none
    rw [if_neg (by omega)]
    exact hM e (by omega)
  · rcases Nat.lt_or_ge e (pr_p S) with u | u
    · rw [z2 e u]; exact hXf e e1 u
    · exact f00.1.fresh (z2f e u e2)
  · show (if e = pr_p S' - 1 then mv else Mf e) = none ∨ _
    by_cases u : e = pr_p S' - 1
    · exact Or.inr ⟨pr_k S, hk0, by omega, by rw [j27]; exact u⟩
    · rw [if_neg u]
      rcases hMM.1 e he with w | ⟨k, w1, w2, w3⟩
      · exact Or.inl w
      · exact Or.inr ⟨k, w1, by omega, by rw [a7.1 27 k (Or.inr (Or.inl rfl)) w2]; exact w3⟩
  · show (if jg_n (S'.2 27 k) = pr_p S' - 1 then mv else Mf (jg_n (S'.2 27 k))) = if lx_kind (rz_T q.1) (rz_n q.1) (jg_n (S'.2 25 k)) = 40 then some (hp_u1 Q (pr_k S) x k, jg_n (S'.2 26 (k + 1)) - jg_n (S'.2 26 k)) else none
    by_cases u : k = pr_k S
    · rw [u, j27, j25, j26, j26', if_pos rfl, z4]
      unfold hp_u1
      rw [if_pos rfl]
    · have hkl : k < pr_k S := by omega
      obtain ⟨w1, w2⟩ := hlt k h1 hkl
      rw [a7.1 27 k (Or.inr (Or.inl rfl)) hkl, a7.1 25 k (Or.inl rfl) hkl, a7.2.1 k (by omega), a7.2.1 (k + 1) (by omega), if_neg (by omega), hMM.2 k h1 hkl]
      unfold hp_u1
      rw [if_neg u]
  · rcases Nat.lt_or_ge k (pr_k S) with u | u
    · obtain ⟨c0, p, p', l, l', w, w2, w3⟩ := hW k h1 u
      exact ⟨c0, p, p', l, l', w.keep a5 a7 u w2 w3, by omega, by omega⟩
    · have e1 : k = pr_k S := by omega
      subst e1
      exact ⟨c, pr_p S, pr_p S', pr_l S, pr_l S', a9, Nat.le_refl _, Nat.le_refl _⟩
  · rw [a6, show pr_k S + 1 - k0 = pr_k S - k0 + 1 by omega]
    exact hcap2
  · have h0 : hp_kd G00 y = 0 := by
      rcases u with u | ⟨u1, u2⟩
      · rw [u]; exact l2
      · exact hsn.fresh f00.1 l2 u1 (by rw [u2]; decide)
    exact absurd h0 hy
  · rcases u with u | ⟨u1, u2⟩
    · exact Or.inl u
    · exact Or.inr ⟨u1.cg (fs.1.lg hy).symm, by rw [← fs.1.kd hy]; exact u2⟩
theorem X3_eqs_L {f0 D B cs ss A : Nat} {P : Option WV → GH → Prop} {r r9 : PE} (hcmp : cmp_o q.1.1) (hD : 902 ≤ D) (hsn : sn G00) (hK : ∀ v, pr_a S0 ≤ v → v < pr_v S0 → (qK q v = 0 ↔ v < pr_a S0 + pr_i S0)) (hx : ∀ k, r9 = .inl k → r = .inl k)
    (K : ∀ c S X Mf Q G ce r3, r9 = .inr (0, c, S) → eqI q Mf Q lo k0 c S0 S X G00 Gs G Le ce → 22 * (rz_n q.1 - c) + 30 + A ≤ r3 → wk_V q.1.1 mX3_node (D, B, P, xq_X q G00 r, cs, ss) 250 [(0, vR (some q.1.2.1))] [] G r3) :
    ∀ f c S X Mf Q G ce r2, pe_eqs (rz_T q.1) (rz_n q.1) f0 f c S = some r9 → eqI q Mf Q lo k0 c S0 S X G00 Gs G Le ce → 22 * (rz_n q.1 - c) + 30 + (10 + 2 * (pr_k S - k0) - ce) + A ≤ r2 → wk_V q.1.1 mX3_node (D, B, P, xq_X q G00 r, cs, ss) 237 [(0, vR (some q.1.2.1))] [] G r2 := by
  intro f
  induction f with
  | zero => intro c S X Mf Q G ce r2 h; cases h
  | succ f ih =>
    intro c S X Mf Q G ce r2 h hI hr2
    unfold pe_eqs at h
    obtain ⟨r1, h1, hx1, h⟩ := pr_b_some h
    obtain ⟨hp, ⟨hE, hB, hs⟩, ⟨hlo, hM, hXf⟩, hMM, ⟨hk0, hW⟩, hL, hcap, ⟨f00, k00⟩, fs, ks⟩ := id hI
    have hlc := hL.1.2.2.2.2.1.1
    have hbp := al_b_pot hlc
    have hpot := al_pot hlc
    have b0 := hE.2.2.1
    have b1 := hE.2.2.2.2.1
    have b3 := hE.2.2.2.2.2.2.2.2.1
    have hcn := hE.2.1
    have hK' : ∀ v, pr_a S ≤ v → v < pr_v S → (qK (qS q Mf) v = 0 ↔ v < pr_a S + pr_i S) := by rw [hs.a, hs.v, hs.i]; exact hK
    refine wk_less hr2 ?_
    refine wk_have fun hA hB9 => ?_
    refine blX3_node_237 hp.1.1.1.1 (X3_equation_C (D := 901) (q := qS q Mf) (xq_all (q := qS q Mf) hcmp f0).1 hcmp (Nat.le_refl _) hp hE hB hlo hM hK' hk0 (hW.lt (by omega) (by omega)) hL f00 k00 h1) (by show 901 + 1 ≤ D; omega) (by show 20 * (rz_n q.1 - c) + 30 + al_b (pr_k S - k0) ce ≤ _; omega) ?_ (fun E a G' u => wk_out0 rfl ?_)
    · rintro v G1 hP
      obtain ⟨rfl, c1, S1, X1, Mf1, Q1, e1, hI1, g1, g2, g3, g4⟩ := hI.step hsn h1 hP
      have h := h _ _ _ e1
      refine wk_bk hA hB9 g4 (r' := 22 * (rz_n q.1 - c1) + 30 + (10 + 2 * (pr_k S1 - k0) - al_c (pr_k S - k0) ce) + A) (by omega) ?_
      have hp1 := hI1.1
      refine blX3_node_241 hp1.1.1.1.1 (X3_is_C (tx := "tel") (d := 2) hp1.1 hp1.2.1.1.1 (by simp [lx_words]) (Nat.le_refl 2)) (by show 2 + 1 ≤ D; omega) (Nat.zero_le _) ?_ (fun _ _ _ u => absurd u id)
      rintro v G2 ⟨rfl, rfl⟩
      refine blX3_node_247 (fun u => ?_) (fun u => ?_)
      · rw [if_neg (lx_b0.1 u)] at h
        exact ih c1 S1 X1 Mf1 Q1 _ _ _ h hI1 (by omega)
      · rw [if_pos (lx_b1 u)] at h
        exact K c1 S1 X1 Mf1 Q1 _ _ _ (Option.some.inj h).symm hI1 (by omega)
    · obtain ⟨k, c', e, h2⟩ := u
      exact ⟨k, c', hx _ (hx1 _ e), h2⟩
end
