/-! judge of the reference -/
set_option maxRecDepth 100000
def jg_up (A : Nat → Int32) (e : Nat) (t : Int32) : Nat → Int32 := fun j => if j = e then t else A j
theorem ml_saA_id {S : MS} {k : Nat} : ml_saA S k (S.2 k) = S := by
  refine Prod.ext rfl (funext fun n => funext fun j => ?_)
  rw [ml_saA_a]
  split
  · rename_i e
    rw [e]
  · rfl
theorem ml_saA_up {S : MS} {k e : Nat} {t : Int32} {A : Nat → Int32} : ml_sa (ml_saA S k A) k e t = ml_saA S k (jg_up A e t) := by
  refine Prod.ext rfl (funext fun n => funext fun j => ?_)
  rw [ml_sa_a, ml_saA_a, ml_saA_a]
  unfold jg_up
  split <;> rfl
/-- types of the expressions from e on, m of them; the body b of an equation answers to outs left sides -/
def jg_ty (S : MS) (b outs : Nat) : Nat → (Nat → Int32) → Nat → Int32 ⊕ (Nat → Int32)
  | 0, A, _ => .inr A
  | m + 1, A, e => match jt S A e (kls S e) (if e = b then outs else 1) with
    | .inl k => .inl k
    | .inr t => jg_ty S b outs m (jg_up A e t) (e + 1)
def jg_cl (S : MS) : Nat → (Nat → Int32) → Nat → Int32 ⊕ (Nat → Int32)
  | 0, C, _ => .inr C
  | m + 1, C, e => match jc S C e (kls S e) with
    | .inl k => .inl k
    | .inr t => jg_cl S m (jg_up C e t) (e + 1)
/-- the left side's variable -/
def jg_v (S : MS) (j : Nat) : Nat := (S.2 28 j).toNatClampNeg
def jg_lt (S : MS) (g : Nat → Int32) (l : Nat) : Nat → Nat → Bool
  | 0, _ => true
  | m + 1, i => decide (S.2 24 (pr_a S + jg_v S (l + i)) = g i) && jg_lt S g l m (i + 1)
def jg_lc (S : MS) (l : Nat) : Nat → Nat → Int32 → JR
  | 0, _, c => .inr c
  | m + 1, i, c => match jc_two c (jc_v S (jg_v S (l + i))) with
    | .inl k => .inl k
    | .inr c2 => jg_lc S l m (i + 1) c2
def jg_n (x : Int32) : Nat := x.toNatClampNeg
/-- what the left sides of an equation are to be -/
def jg_g (S : MS) (A : Nat → Int32) (many : Bool) (b : Nat) (i : Nat) : Int32 :=
  if many = true then S.2 24 (jg_n (S.2 12 (jg_n (S.2 33 b))) + jg_n (S.2 13 (jg_n (S.2 33 b))) + i) else A b
def jg_st (S : MS) (k : Nat) (A C : Nat → Int32) : MS := ml_saA (ml_saA (ml_sf S 42 (S.2 25 k)) 41 A) 36 C
/-- an equation whose place, expressions, body and left sides are known, judged -/
def jg0 (S : MS) (k p b l m : Nat) (many : Bool) : Int32 ⊕ MS :=
  match jg_ty S b (if many = true then m else 1) (b + 1 - p) (S.2 41) p with
  | .inl kd => .inl kd
  | .inr A => if jg_lt S (jg_g S A many b) l m 0 = true then match jg_cl S (b + 1 - p) (S.2 36) p with
    | .inl kd => .inl kd
    | .inr C => match jg_lc S l m 0 (C b) with
      | .inl kd => .inl kd
      | .inr _ => .inr (jg_st S k A C)
    else .inl 4
def jg (S : MS) (k : Nat) : Int32 ⊕ MS := jg0 S k (jg_n (S.2 29 k)) (jg_n (S.2 27 k)) (jg_n (S.2 26 k)) (jg_n (S.2 26 (k + 1)) - jg_n (S.2 26 k)) (decide (S.2 0 (jg_n (S.2 25 k)) = 40))
theorem jt_ok_inr {g : Bool} {v t : Int32} (h : jt_ok g v = .inr t) : v = t := by
  unfold jt_ok at h
  split at h
  · exact Sum.inr.inj h
  · cases h
theorem jt_01 {n e outs : Nat} {S : MS} {A : Nat → Int32} {ks : List Nat} {t : Int32} (hJ : pj_V n S) (hs : pw_s S (S.2 32 e) (S.2 33 e) ks.length) (hA : ∀ k ∈ ks, A k = 0 ∨ A k = 1) (h : jt S A e ks outs = .inr t) : t = 0 ∨ t = 1 := by
  obtain ⟨hV, h01, hnod⟩ := hJ
  obtain ⟨v1, v2, v3, v4, v5, v6, v7, v8, v9⟩ := hV.N
  have hg : ∀ i, i < ks.length → A (ks.getD i 0) = 0 ∨ A (ks.getD i 0) = 1 := fun i hi => hA _ (by rw [List.getD_eq_getElem?_getD, List.getElem?_eq_getElem hi]; exact List.getElem_mem hi)
  unfold pw_s at hs
  unfold jt at h
  by_cases g3 : S.2 32 e = 3
  · rw [if_pos g3] at h
    rw [g3] at hs
    obtain ⟨hl1, f, hf, e1⟩ : 1 ≤ ks.length ∧ ∃ f, f < pr_N S ∧ S.2 33 e = nI f := by
      rcases hs with ⟨a, b⟩ | ⟨a, b, -⟩ | ⟨a, b, -⟩ | ⟨a, b, f, hf, e1⟩ | ⟨a, b⟩ | ⟨a, a2, b⟩ | ⟨a, a2, b⟩ | ⟨a, b, -⟩
      · exact absurd a (by decide)
      · exact absurd a (by decide)
      · exact absurd a (by decide)
      · exact ⟨b, f, hf, e1⟩
      · exact absurd a (by decide)
      · exact absurd a (by decide)
      · exact absurd a (by decide)
      · exact absurd a (by decide)
    obtain ⟨b, i, o, f1, f2, f3, f4, f5⟩ := hnod f hf
    rw [e1, nI_clamp (n := f) (by omega), f1, f2, nI_clamp (n := b) (by omega), nI_clamp (n := i) (by omega)] at h
    by_cases gg : ks.length = (S.2 13 f).toNatClampNeg ∧ outs = (S.2 14 f).toNatClampNeg
    · rw [f2, nI_clamp (n := i) (by omega)] at gg
      rw [if_pos gg] at h
      rw [← jt_ok_inr h]
      exact h01 _ (by omega)
    · rw [f2, nI_clamp (n := i) (by omega)] at gg
      rw [if_neg gg] at h
      cases h
  rw [if_neg g3] at h
  by_cases n0 : S.2 32 e = 0
  · rw [if_pos n0] at h
    exact Or.inl (Sum.inr.inj h).symm
  rw [if_neg n0] at h
  by_cases n1 : S.2 32 e = 1
  · rw [if_pos n1] at h
    exact Or.inr (Sum.inr.inj h).symm
  rw [if_neg n1] at h
  by_cases n2 : S.2 32 e = 2
  · rw [if_pos n2] at h
    rw [n2] at hs
    have h' := Sum.inr.inj h
    rw [← h']
    rcases hs with ⟨a, b⟩ | ⟨a, b, -⟩ | ⟨a, b, v, hv, e1⟩ | ⟨a, b, -⟩ | ⟨a, b⟩ | ⟨a, a2, b⟩ | ⟨a, a2, b⟩ | ⟨a, b, -⟩
    · exact absurd a (by decide)
    · exact absurd a (by decide)
    · rw [e1, nI_clamp (by omega)]
      exact h01 _ hv
    · exact absurd a (by decide)
    · exact absurd a (by decide)
    · exact absurd a (by decide)
    · exact absurd a (by decide)
    · exact absurd a (by decide)
  rw [if_neg n2] at h
  have hl : 1 ≤ ks.length ∧ (S.2 32 e = 4 → ks.length = 3) := by
    rcases hs with ⟨a, b⟩ | ⟨a, b, -⟩ | ⟨a, b, -⟩ | ⟨a, b, -⟩ | ⟨a, b⟩ | ⟨a, a2, b⟩ | ⟨a, a2, b⟩ | ⟨a, b, -⟩
    · exact absurd a n0
    · exact absurd a n1
    · exact absurd a n2
    · exact absurd a g3
    · exact ⟨by omega, fun _ => b⟩
    · exact ⟨by omega, fun u => by rw [u] at a; exact absurd a (by decide)⟩
    · exact ⟨by omega, fun u => by rw [u] at a; exact absurd a (by decide)⟩
    · exact ⟨by omega, fun u => by rw [u] at a; exact absurd a (by decide)⟩
  by_cases q4 : S.2 32 e = 4
  · rw [if_pos q4] at h
    rw [← jt_ok_inr h]
    exact hg 1 (by have := hl.2 q4; omega)
  rw [if_neg q4] at h
  by_cases q5 : S.2 32 e = 5 ∨ S.2 32 e = 6
  · rw [if_pos q5] at h
    rw [← jt_ok_inr h]; exact hg 0 (by omega)
  rw [if_neg q5] at h
  by_cases q6 : 7 ≤ S.2 32 e ∧ S.2 32 e ≤ 10
  · rw [if_pos q6] at h
    rw [← jt_ok_inr h]; exact Or.inr rfl
  rw [if_neg q6] at h
  by_cases q7 : S.2 32 e = 11 ∨ S.2 32 e = 12
  · rw [if_pos q7] at h
    rw [← jt_ok_inr h]; exact Or.inr rfl
  rw [if_neg q7] at h
  by_cases q8 : 13 ≤ S.2 32 e ∧ S.2 32 e ≤ 16
  · rw [if_pos q8] at h
    rw [← jt_ok_inr h]; exact Or.inr rfl
  rw [if_neg q8] at h
  by_cases q9 : 17 ≤ S.2 32 e ∧ S.2 32 e ≤ 21
  · rw [if_pos q9] at h
    rw [← jt_ok_inr h]; exact Or.inl rfl
  rw [if_neg q9] at h
  by_cases qa : S.2 32 e = 22
  · rw [if_pos qa] at h
    rw [← jt_ok_inr h]; exact Or.inl rfl
  rw [if_neg qa] at h
  by_cases qb : S.2 32 e = 23
  · rw [if_pos qb] at h
    rw [← jt_ok_inr h]; exact Or.inr rfl
  rw [if_neg qb] at h
  rw [← Sum.inr.inj h]; exact hg 0 (by omega)
theorem jc_q {n e : Nat} {S : MS} {C : Nat → Int32} {ks : List Nat} {t : Int32} (hV : pe_V n S) (hs : pw_s S (S.2 32 e) (S.2 33 e) ks.length) (hA : ∀ k ∈ ks, jq S (C k)) (h : jc S C e ks = .inr t) : jq S t := by
  have hg : ∀ i, i < ks.length → jq S (C (ks.getD i 0)) := fun i hi => hA _ (by rw [List.getD_eq_getElem?_getD, List.getElem?_eq_getElem hi]; exact List.getElem_mem hi)
  obtain ⟨v1, v2, v3, v4, v5, v6, v7, v8, v9⟩ := hV.N
  unfold pw_s at hs
  unfold jc at h
  split at h
  · rename_i g
    rw [g] at hs
    rw [← Sum.inr.inj h]
    rcases hs with ⟨a, b⟩ | ⟨a, b, -⟩ | ⟨a, b, v, hv, e1⟩ | ⟨a, b, -⟩ | ⟨a, b⟩ | ⟨a, a2, b⟩ | ⟨a, a2, b⟩ | ⟨a, b, -⟩
    · exact absurd a (by decide)
    · exact absurd a (by decide)
    · rw [e1, nI_clamp (by omega)]
      exact jq_v hV hv
    · exact absurd a (by decide)
    · exact absurd a (by decide)
    · exact absurd a (by decide)
    · exact absurd a (by decide)
    · exact absurd a (by decide)
  split at h
  · rename_i g
    rw [g] at hs
    split at h
    · cases h
    · rw [← Sum.inr.inj h]
      rcases hs with ⟨a, b⟩ | ⟨a, b, -⟩ | ⟨a, b, -⟩ | ⟨a, b, -⟩ | ⟨a, b⟩ | ⟨a, a2, b⟩ | ⟨a, a2, b⟩ | ⟨a, b, v, s, h1, h2, h3, h4⟩
      · exact absurd a (by decide)
      · exact absurd a (by decide)
      · exact absurd a (by decide)
      · exact absurd a (by decide)
      · exact absurd a (by decide)
      · exact absurd a2 (by decide)
      · exact absurd a2 (by decide)
      · exact Or.inr (Or.inr ⟨2 * v + s, by omega, h4, by omega⟩)
  split at h
  · rename_i g
    rw [g] at hs
    have hl : 1 ≤ ks.length := by
      rcases hs with ⟨a, b⟩ | ⟨a, b, -⟩ | ⟨a, b, -⟩ | ⟨a, b, -⟩ | ⟨a, b⟩ | ⟨a, a2, b⟩ | ⟨a, a2, b⟩ | ⟨a, b, -⟩
      · exact absurd a (by decide)
      · exact absurd a (by decide)
      · exact absurd a (by decide)
      · exact b
      · omega
      · omega
      · omega
      · omega
    split at h
    · cases h
    · rename_i q4
      rw [← Sum.inr.inj h]
      obtain ⟨w, w1, w2, w3⟩ := jq_neg (hg 0 hl) (Int32.not_lt.1 q4)
      rw [w2, nI_clamp (by omega)]
      exact jq_v hV w3
  · exact jc_all_ok ks _ _ (Or.inl rfl) hA h
