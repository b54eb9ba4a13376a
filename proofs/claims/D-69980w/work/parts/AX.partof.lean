/-! partOf of the reference: the value of a part at an instant -/
set_option maxRecDepth 100000
/-- the step of a part -/
def po1 (σ : MS) (x r k : Nat) : MS := if σ.2 44 k = nI r ∧ md_pr σ 60 x (σ.2 43 k) = true then ml_sa σ 77 k (wv σ x k) else σ
def po (x r : Nat) : Nat → Nat → MS → MS
  | 0, _, σ => σ
  | f + 1, k, σ => po x r f (k + 1) (po1 σ x r k)
/-- the state behind partOf -/
def po_a (σ : MS) (x r : Nat) : MS := po x r (r + 1 - lw (σ.2 34) r) (lw (σ.2 34) r) σ
theorem po1_2 {σ : MS} {x r k q : Nat} (h : q ≠ 77) : (po1 σ x r k).2 q = σ.2 q := by
  unfold po1
  split
  · funext j
    rw [ml_sa_a, if_neg h]
  · rfl
theorem po1_1 {σ : MS} {x r k : Nat} : (po1 σ x r k).1 = σ.1 := by
  unfold po1
  split <;> rfl
theorem po_2 {x r : Nat} {q : Nat} (h : q ≠ 77) : ∀ f k σ, (po x r f k σ).2 q = σ.2 q := by
  intro f
  induction f with
  | zero => intro k σ; rfl
  | succ f ih => intro k σ; rw [po, ih, po1_2 h]
theorem po_1 {x r : Nat} : ∀ f k σ, (po x r f k σ).1 = σ.1 := by
  intro f
  induction f with
  | zero => intro k σ; rfl
  | succ f ih => intro k σ; rw [po, ih, po1_1]
theorem po_a_2 {σ : MS} {x r q : Nat} (h : q ≠ 77) : (po_a σ x r).2 q = σ.2 q := po_2 h _ _ _
theorem po_a_1 {σ : MS} {x r : Nat} : (po_a σ x r).1 = σ.1 := po_1 _ _ _
section
variable {z : MZ} {T : Nat → Int32} {n : Nat} {S : MS} {A Q P L B M C : Nat → Nat} {I : Nat}
theorem X6_partOf_C (h : rw_K T n S A Q P L) (hI : rw_I S I B M C) {σ : MS} (hS : ∀ q, q ≤ 64 → σ.2 q = S.2 q) {x m r d : Nat} (hx : x < I) (h56 : S.2 56 x = nI m) (hm : m < pr_N S) (h1 : P m ≤ r) (h2 : r < P (m + 1)) (hd : 62 ≤ d) : ml_C z mX6_partOf d 0 [vR (some z.2.1), vI (nI x), vI (nI r)] σ (fun u σ' _ => u = some (vI ((po_a σ x r).2 77 r)) ∧ σ' = po_a σ x r) (fun _ _ _ => False) := by
  have hI32 : I ≤ 3200 := hI.1.2.2.2.2.2.2.1
  obtain ⟨i, o, hn⟩ := h.1.2.1 m hm
  have hp5 : P (m + 1) ≤ 5000 := hn.2.1.2.2.2.2.2.2.2.1
  obtain ⟨s1, s2, s3, s4⟩ := nf_call hn h1 h2
  obtain ⟨p1, p2, q1, q2, q3, q4, q5, q6, q7, q8, q9⟩ := rw_eq h hm h1 h2
  have e45 := (q7 r q1 q2).2
  have cr : (nI r).toNatClampNeg = r := nI_clamp (by omega)
  have vr : vp_in (nI r) 66000 := vp_in_nI (by omega) (by decide)
  have hlo : lw (S.2 34) r ≤ r := (pw_k_mem _ _ s4).1
  have e34 : σ.2 34 = S.2 34 := hS 34 (by omega)
  refine ml_C_of (by decide) rfl (Nat.le_of_ble_eq_true rfl) ?_
  generalize hF : po_a σ x r = F
  unfold po_a at hF
  rw [e34] at hF
  generalize lw (S.2 34) r = lo at *
  have loop : ∀ f k σ E, k + f = r + 1 → lo ≤ k → (∀ q, q ≤ 64 → σ.2 q = S.2 q) → po x r f k σ = F → ml_V z mX6_partOf (d, 0, (fun u σ' _ => u = some (vI (F.2 77 r)) ∧ σ' = F), fun _ _ _ => False) 7 [(0, vR (some z.2.1)), (1, vI (nI x)), (2, vI (nI r)), (3, vI (nI k))] [] σ E 0 := by
    intro f
    induction f with
    | zero =>
      intro k σ E hk hl hS hF
      rw [po] at hF
      subst hF
      refine mbpartOf_7 (fun u => ?_) (fun u => absurd (show nI r < nI k from nI_lt (by omega) (by omega)) u)
      refine mbpartOf_48 vr (fun G _ => ⟨?_, rfl⟩)
      rw [cr]
    | succ f ih =>
      intro k σ E hk hl hS hF
      rw [po] at hF
      have ck : (nI k).toNatClampNeg = k := nI_clamp (by omega)
      have vk : vp_in (nI k) 66000 := vp_in_nI (by omega) (by decide)
      have next : ∀ σ E, (∀ q, q ≤ 64 → σ.2 q = S.2 q) → po x r f (k + 1) σ = F → ml_V z mX6_partOf (d, 0, (fun u σ' _ => u = some (vI (F.2 77 r)) ∧ σ' = F), fun _ _ _ => False) 42 [(0, vR (some z.2.1)), (1, vI (nI x)), (2, vI (nI r)), (3, vI (nI k))] [] σ E 0 := fun σ E hS hF => by
        refine mbpartOf_42 ?_
        rw [nI_1]
        exact ih (k + 1) σ _ (by omega) (by omega) hS hF
      refine mbpartOf_7 (fun u => absurd u (Int32.not_lt.2 (nI_le (by omega) (by omega)))) (fun _ => ?_)
      refine mbpartOf_12 vk (fun u => ?_) (fun u => ?_)
      · rw [ck] at u
        rw [po1, if_neg (fun v => u v.1)] at hF
        exact next σ _ hS hF
      · rw [ck] at u
        have hc := rw_fq h (m := m) (e := k) hm (by omega) (by omega)
        refine mbpartOf_22 (P := fun u σ' _ => u = some (vI (if md_pr σ 60 x (σ.2 43 k) = true then 1 else 0)) ∧ σ' = σ) (PX := fun _ _ _ => False) (d' := 60) (b' := 0) vk (by rw [ck]; refine rw_present h hI hS hx h56 hm ?_ (by omega); rw [hS 43 (by omega)]; rcases hc with w | ⟨w, w1, w2, w3, -⟩; exact Or.inl w; exact Or.inr ⟨w, w1, w2, w3⟩) (by show 60 + 1 ≤ d; omega) (Nat.zero_le _) (ml_krv fun σ2 g => ?_) ml_no
        subst g
        refine mbpartOf_33 (fun w => ?_) (fun w => ?_)
        · have w2 : ¬ md_pr σ2 60 x (σ2.2 43 k) = true := fun y => by
            rw [if_pos y] at w
            exact absurd w (by decide)
          rw [po1, if_neg (fun v => w2 v.2)] at hF
          exact next σ2 _ hS hF
        · have w2 : md_pr σ2 60 x (σ2.2 43 k) = true := Decidable.byContradiction fun y => w (by rw [if_neg y])
          rw [po1, if_pos ⟨u, w2⟩] at hF
          refine mbpartOf_36 (d' := 61) (b' := 0) (X6_work_C h hI hS hx h56 hm (by omega) (by omega) (by omega)) (by show 61 + 1 ≤ d; omega) (Nat.zero_le _) (ml_kr0 fun σ3 g => ?_) ml_no
          subst g
          refine next _ _ (fun q hq => ?_) hF
          funext j
          rw [ml_sa_a, if_neg (by omega)]
          rw [hS q hq]
  refine mbpartOf_0 vr ?_
  rw [cr, hS 45 (by omega), e45]
  exact loop (r + 1 - lo) lo σ _ (by omega) (Nat.le_refl _) hS hF
end
