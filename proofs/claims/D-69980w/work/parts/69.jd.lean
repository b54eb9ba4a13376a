/-! TYPES AND CLOCKS as functions; type, together, clockOfVariable of the reference -/
set_option maxRecDepth 100000
/-- the parts of an expression by its arrays -/
def chf (B : Nat → Int32) : Nat → Int32 → List Nat
  | 0, _ => []
  | f + 1, x => if x < 0 then [] else x.toNatClampNeg :: chf B f (B x.toNatClampNeg)
theorem chf_eq {B : Nat → Int32} : ∀ (ks : List Nat) (x : Int32) (f : Nat), md_ch B x ks → ks.length ≤ f → (∀ k ∈ ks, k < 2 ^ 31) → chf B f x = ks
  | [], x, 0, _, _, _ => rfl
  | [], x, f + 1, h, _, _ => by
    have h' : x < 0 := h
    show (if x < 0 then [] else _) = _
    rw [if_pos h']
  | k :: ks, x, f + 1, h, hl, hk => by
    obtain ⟨rfl, h⟩ := h
    have hk0 := hk k List.mem_cons_self
    show (if nI k < 0 then [] else _) = _
    rw [if_neg (nI_pos hk0), nI_clamp hk0, chf_eq ks _ f h (by simp at hl; omega) (fun q hq => hk q (List.mem_cons_of_mem _ hq))]
theorem pw_k_len {L : Nat → Nat} {e : Nat} : ∀ (ks : List Nat) (l : Nat), pw_k L l ks e → l + ks.length ≤ e
  | [], l, h => Nat.le_of_eq h
  | k :: ks, l, h => by
    have := pw_k_len ks (k + 1) h.2.2.2
    simp
    have := h.2.1
    omega
def kls (S : MS) (e : Nat) : List Nat := chf (S.2 35) e (S.2 34 e)
theorem pw_n.kl {S : MS} {e : Nat} (h : pw_n S e) (he : e < 2 ^ 31) : md_ch (S.2 35) (S.2 34 e) (kls S e) ∧ pw_k (lw (S.2 34)) (lw (S.2 34) e) (kls S e) e ∧ pw_s S (S.2 32 e) (S.2 33 e) (kls S e).length := by
  obtain ⟨ks, h1, h2, h3⟩ := h
  have e1 : chf (S.2 35) e (S.2 34 e) = ks := chf_eq ks _ _ h1 (by have := pw_k_len ks _ h2; omega) (fun k hk => by have := ((pw_k_mem ks _ h2).2 k hk).2; omega)
  unfold kls
  rw [e1]
  exact ⟨h1, h2, h3⟩
/-- an answer: a kind of error, or a value -/
abbrev JR : Type := Int32 ⊕ Int32
def jt_ok (good : Bool) (v : Int32) : JR := if good = true then .inr v else .inl 4
def jt_all (A : Nat → Int32) (g : Nat → Int32) : Nat → List Nat → Bool
  | _, [] => true
  | i, k :: ks => decide (A k = g i) && jt_all A g (i + 1) ks
/-- the type of an expression by the types A of its parts -/
def jt (S : MS) (A : Nat → Int32) (e : Nat) (ks : List Nat) (outs : Nat) : JR :=
  if S.2 32 e = 3 then
    if ks.length = (S.2 13 (S.2 33 e).toNatClampNeg).toNatClampNeg ∧ outs = (S.2 14 (S.2 33 e).toNatClampNeg).toNatClampNeg then
      jt_ok (jt_all A (S.2 24) (S.2 12 (S.2 33 e).toNatClampNeg).toNatClampNeg ks) (S.2 24 ((S.2 12 (S.2 33 e).toNatClampNeg).toNatClampNeg + (S.2 13 (S.2 33 e).toNatClampNeg).toNatClampNeg))
    else .inl 5
  else if S.2 32 e = 0 then .inr 0
  else if S.2 32 e = 1 then .inr 1
  else if S.2 32 e = 2 then .inr (S.2 24 (pr_a S + (S.2 33 e).toNatClampNeg))
  else if S.2 32 e = 4 then jt_ok (decide (A (ks.getD 0 0) ≠ 0) && decide (A (ks.getD 1 0) = A (ks.getD 2 0))) (A (ks.getD 1 0))
  else if S.2 32 e = 5 ∨ S.2 32 e = 6 then jt_ok (decide (A (ks.getD 0 0) = A (ks.getD 1 0))) (A (ks.getD 0 0))
  else if 7 ≤ S.2 32 e ∧ S.2 32 e ≤ 10 then jt_ok (decide (A (ks.getD 0 0) ≠ 0) && decide (A (ks.getD 1 0) ≠ 0)) 1
  else if S.2 32 e = 11 ∨ S.2 32 e = 12 then jt_ok (decide (A (ks.getD 0 0) = A (ks.getD 1 0))) 1
  else if 13 ≤ S.2 32 e ∧ S.2 32 e ≤ 16 then jt_ok (decide (A (ks.getD 0 0) = 0) && decide (A (ks.getD 1 0) = 0)) 1
  else if 17 ≤ S.2 32 e ∧ S.2 32 e ≤ 21 then jt_ok (decide (A (ks.getD 0 0) = 0) && decide (A (ks.getD 1 0) = 0)) 0
  else if S.2 32 e = 22 then jt_ok (decide (A (ks.getD 0 0) = 0)) 0
  else if S.2 32 e = 23 then jt_ok (decide (A (ks.getD 0 0) ≠ 0)) 1
  else .inr (A (ks.getD 0 0))
/-- one clock out of two -/
def jc_two (a b : Int32) : JR := if a = -2 then .inr b else if b = -2 ∨ a = b then .inr a else .inl 6
def jc_all (C : Nat → Int32) : Int32 → List Nat → JR
  | c, [] => .inr c
  | c, k :: ks => match jc_two c (C k) with
    | .inl e => .inl e
    | .inr c2 => jc_all C c2 ks
/-- the clock of a variable of the node -/
def jc_v (S : MS) (v : Nat) : Int32 := S.2 22 (pr_a S + v)
/-- the clock of an expression by those of its parts -/
def jc (S : MS) (C : Nat → Int32) (e : Nat) (ks : List Nat) : JR :=
  if S.2 32 e = 2 then .inr (jc_v S (S.2 33 e).toNatClampNeg)
  else if S.2 32 e = 26 then match jc_two (C (ks.getD 0 0)) (jc_v S ((S.2 33 e).toNatClampNeg / 2)) with
    | .inl k => .inl k
    | .inr _ => .inr (S.2 33 e)
  else if S.2 32 e = 25 then if C (ks.getD 0 0) < 0 then .inl 6 else .inr (jc_v S ((C (ks.getD 0 0)).toNatClampNeg / 2))
  else jc_all C (-2) ks
section
variable {z : MZ}
theorem X6_type_C {d : Nat} {σ : MS} {g : Int32} (hd : 5 ≤ d) : ml_C z mX6_type d 1 [vR (some z.2.1), vI g] σ (fun v σ' _ => v = none ∧ g ≠ 0 ∧ σ' = σ) (fun kd pl σ' => g = 0 ∧ kd = 4 ∧ pl = σ.1 42 ∧ σ' = σ) := by
  refine ml_C_of (by decide) rfl (Nat.le_of_ble_eq_true rfl) ?_
  refine mbtype_0 (fun q => mbtype_17 (fun G _ => ⟨rfl, q, rfl⟩)) (fun q => ?_)
  refine mbtype_4 (Nat.le_refl 1) (fun q1 => ?_)
  refine mbtype_7 rfl (X23_init_C (Nat.le_refl 4)) (fun G g => g) (by show _ ≤ d; omega) (Nat.zero_le _) ?_
  exact mbtype_16 rfl (fun G g => g.1) (fun G g => ⟨q, g.2.1, g.2.2, rfl⟩)
theorem X6_together_C {d : Nat} {σ : MS} {a b : Int32} (hd : 5 ≤ d) : ml_C z mX6_together d 1 [vR (some z.2.1), vI a, vI b] σ (fun v σ' _ => ∃ c, jc_two a b = .inr c ∧ v = some (vI c) ∧ σ' = σ) (fun kd pl σ' => jc_two a b = .inl kd ∧ pl = σ.1 42 ∧ σ' = σ) := by
  refine ml_C_of (by decide) rfl (Nat.le_of_ble_eq_true rfl) ?_
  unfold jc_two
  refine mbtogether_0 (fun q => ?_) (fun q => mbtogether_6 (fun G _ => ⟨b, by rw [if_pos q], rfl, rfl⟩))
  refine mbtogether_8 (fun q2 => mbtogether_33 (fun G _ => ⟨a, by rw [if_neg q, if_pos (Or.inl q2)], rfl, rfl⟩)) (fun q2 => ?_)
  refine mbtogether_14 (fun q3 => mbtogether_33 (fun G _ => ⟨a, by rw [if_neg q, if_pos (Or.inr q3)], rfl, rfl⟩)) (fun q3 => ?_)
  refine mbtogether_19 (Nat.le_refl 1) (fun q1 => ?_)
  refine mbtogether_22 rfl (X23_init_C (Nat.le_refl 4)) (fun G g => g) (by show _ ≤ d; omega) (Nat.zero_le _) ?_
  refine mbtogether_32 rfl (fun G g => g.1) (fun G g => ⟨?_, g.2.2, rfl⟩)
  rw [if_neg q, if_neg (by rintro (u | u); exact q2 u; exact q3 u), g.2.1]
theorem X6_clockOf_C {d v n : Nat} {σ : MS} (hV : pe_V n σ) (hv : pr_a σ + v < 6000) : ml_C z mX6_clockOfVariable d 0 [vR (some z.2.1), vI (nI v)] σ (fun u σ' _ => u = some (vI (jc_v σ v)) ∧ σ' = σ) (fun _ _ _ => False) := by
  obtain ⟨v1, v2, v3, v4, v5, v6, v7, v8, v9⟩ := hV.N
  refine ml_C_of (by decide) rfl (Nat.le_of_ble_eq_true rfl) ?_
  have ea : σ.2 12 (σ.1 18).toNatClampNeg + nI v = nI (pr_a σ + v) := by rw [v1, nI_clamp (by omega), v5, nI_add]
  refine mbclockOfVariable_0 (by rw [v1]; exact vp_in_nI (by omega) (by decide)) (by rw [ea]; exact vp_in_nI hv (by decide)) (fun G _ => ⟨?_, rfl⟩)
  rw [ea, nI_clamp (by omega)]
  rfl
end
