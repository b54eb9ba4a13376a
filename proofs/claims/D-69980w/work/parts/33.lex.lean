/-! THE LEXER AS A FUNCTION of the tape T, its size n and a place c -/
set_option maxRecDepth 100000
abbrev lx_dg (b : Int32) : Prop := 48 ≤ b ∧ b ≤ 57
abbrev lx_lt (b : Int32) : Prop := (97 ≤ b ∧ b ≤ 122) ∨ (65 ≤ b ∧ b ≤ 90)
def lx_at (T : Nat → Int32) (n k : Nat) : Int32 := if k < n then T k else 0
def lx_eol (T : Nat → Int32) (n c : Nat) : Nat := if c < n ∧ T c ≠ 10 then lx_eol T n (c + 1) else c
termination_by n - c
decreasing_by omega
theorem lx_eol_1 {T : Nat → Int32} {n c : Nat} (h : c < n ∧ T c ≠ 10) : lx_eol T n c = lx_eol T n (c + 1) := by rw [lx_eol, if_pos h]
theorem lx_eol_0 {T : Nat → Int32} {n c : Nat} (h : ¬ (c < n ∧ T c ≠ 10)) : lx_eol T n c = c := by rw [lx_eol, if_neg h]
theorem lx_eol_ge {T : Nat → Int32} {n : Nat} : ∀ f c, n ≤ c + f → c ≤ lx_eol T n c := by
  intro f
  induction f with
  | zero => intro c h; rw [lx_eol_0 (by omega)]; exact Nat.le_refl c
  | succ f ih =>
    intro c h
    rcases Decidable.em (c < n ∧ T c ≠ 10) with h1 | h1
    · rw [lx_eol_1 h1]; exact Nat.le_trans (Nat.le_succ c) (ih (c + 1) (by omega))
    · rw [lx_eol_0 h1]; exact Nat.le_refl c
theorem lx_eol_le {T : Nat → Int32} {n : Nat} : ∀ f c, n ≤ c + f → c ≤ n → lx_eol T n c ≤ n := by
  intro f
  induction f with
  | zero => intro c h hc; rw [lx_eol_0 (by omega)]; exact hc
  | succ f ih =>
    intro c h hc
    rcases Decidable.em (c < n ∧ T c ≠ 10) with h1 | h1
    · rw [lx_eol_1 h1]; exact ih (c + 1) (by omega) (by omega)
    · rw [lx_eol_0 h1]; exact hc
/-- past blanks and remarks -/
def lx_skip (T : Nat → Int32) (n c : Nat) : Nat :=
  if c < n then
    if T c = 45 ∧ lx_at T n (c + 1) = 45 then lx_skip T n (lx_eol T n (c + 1))
    else if T c = 32 ∨ T c = 9 ∨ T c = 10 ∨ T c = 13 then lx_skip T n (c + 1) else c
  else c
termination_by n - c
decreasing_by
  · have := lx_eol_ge (T := T) (n := n) n (c + 1) (by omega)
    omega
  · omega
theorem lx_skip_r {T : Nat → Int32} {n c : Nat} (h : c < n) (h1 : T c = 45 ∧ lx_at T n (c + 1) = 45) : lx_skip T n c = lx_skip T n (lx_eol T n (c + 1)) := by rw [lx_skip, if_pos h, if_pos h1]
theorem lx_skip_b {T : Nat → Int32} {n c : Nat} (h : c < n) (h2 : T c = 32 ∨ T c = 9 ∨ T c = 10 ∨ T c = 13) : lx_skip T n c = lx_skip T n (c + 1) := by
  rw [lx_skip, if_pos h, if_neg, if_pos h2]
  rintro ⟨h1, -⟩
  rw [h1] at h2
  revert h2
  decide
theorem lx_skip_n {T : Nat → Int32} {n c : Nat} (h1 : ¬ (T c = 45 ∧ lx_at T n (c + 1) = 45)) (h2 : ¬ (T c = 32 ∨ T c = 9 ∨ T c = 10 ∨ T c = 13)) : lx_skip T n c = c := by
  rw [lx_skip, if_neg h1, if_neg h2]
  split <;> rfl
theorem lx_skip_e {T : Nat → Int32} {n c : Nat} (h : ¬ c < n) : lx_skip T n c = c := by rw [lx_skip, if_neg h]
theorem lx_skip_ge {T : Nat → Int32} {n : Nat} : ∀ f c, n ≤ c + f → c ≤ n → c ≤ lx_skip T n c ∧ lx_skip T n c ≤ n := by
  intro f
  induction f with
  | zero => intro c h hc; rw [lx_skip_e (by omega)]; exact ⟨Nat.le_refl c, hc⟩
  | succ f ih =>
    intro c h hc
    rcases Decidable.em (c < n) with h0 | h0
    · rcases Decidable.em (T c = 45 ∧ lx_at T n (c + 1) = 45) with h1 | h1
      · rw [lx_skip_r h0 h1]
        have a := lx_eol_ge (T := T) (n := n) n (c + 1) (by omega)
        have b := lx_eol_le (T := T) (n := n) n (c + 1) (by omega) (by omega)
        have := ih (lx_eol T n (c + 1)) (by omega) b
        omega
      · rcases Decidable.em (T c = 32 ∨ T c = 9 ∨ T c = 10 ∨ T c = 13) with h2 | h2
        · rw [lx_skip_b h0 h2]
          have := ih (c + 1) (by omega) (by omega)
          omega
        · rw [lx_skip_n h1 h2]; exact ⟨Nat.le_refl c, hc⟩
    · rw [lx_skip_e h0]; exact ⟨Nat.le_refl c, hc⟩
theorem ml_sf_sf {σ : MS} {k : Nat} {a b : Int32} : ml_sf (ml_sf σ k a) k b = ml_sf σ k b := by
  refine Prod.ext (funext fun j => ?_) rfl
  show (if j = k then b else (if j = k then a else σ.1 j)) = if j = k then b else σ.1 j
  split <;> rfl
theorem ml_sf_id {σ : MS} {k : Nat} {a : Int32} (h : σ.1 k = a) : ml_sf σ k a = σ := by
  refine Prod.ext (funext fun j => ?_) rfl
  show (if j = k then a else σ.1 j) = σ.1 j
  split
  · rename_i e; rw [e, h]
  · rfl
theorem X6_digit_C {z : MZ} {d : Nat} {σ : MS} {x : Int32} : ml_C z mX6_digit d 0 [vI x] σ (fun v σ' _ => v = some (vI (if lx_dg x then 1 else 0)) ∧ σ' = σ) (fun _ _ _ => False) := by
  refine ml_C_of (by decide) rfl (Nat.le_of_ble_eq_true rfl) ?_
  refine mbdigit_0 (fun h => ?_) (fun h => ?_)
  · refine mbdigit_16 (mbdigit_17 rfl (fun _ _ => ⟨?_, rfl⟩))
    rw [if_neg (fun q => Int32.not_lt.2 q.1 h)]
  · refine mbdigit_6 (fun h2 => ?_) (fun h2 => ?_)
    · refine mbdigit_16 (mbdigit_17 rfl (fun _ _ => ⟨?_, rfl⟩))
      rw [if_neg (fun q => Int32.not_lt.2 q.2 h2)]
    · refine mbdigit_12 (mbdigit_17 rfl (fun _ _ => ⟨?_, rfl⟩))
      rw [if_pos ⟨Int32.not_lt.1 h, Int32.not_lt.1 h2⟩]
theorem X6_letter_C {z : MZ} {d : Nat} {σ : MS} {x : Int32} : ml_C z mX6_letter d 0 [vI x] σ (fun v σ' _ => v = some (vI (if lx_lt x then 1 else 0)) ∧ σ' = σ) (fun _ _ _ => False) := by
  refine ml_C_of (by decide) rfl (Nat.le_of_ble_eq_true rfl) ?_
  have t : ∀ E, ¬ (97 ≤ x ∧ x ≤ 122) → ml_V z mX6_letter (d, 0, (fun v σ' _ => v = some (vI (if lx_lt x then 1 else 0)) ∧ σ' = σ), fun _ _ _ => False) 12 [(0, vI x)] [] σ E 0 := by
    intro E h1
    refine mbletter_12 (fun h => ?_) (fun h => ?_)
    · refine mbletter_28 (mbletter_29 rfl (fun _ _ => ⟨?_, rfl⟩))
      rw [if_neg (fun q => q.elim h1 (fun q => Int32.not_lt.2 q.1 h))]
    · refine mbletter_18 (fun h2 => ?_) (fun h2 => ?_)
      · refine mbletter_28 (mbletter_29 rfl (fun _ _ => ⟨?_, rfl⟩))
        rw [if_neg (fun q => q.elim h1 (fun q => Int32.not_lt.2 q.2 h2))]
      · refine mbletter_24 (mbletter_29 rfl (fun _ _ => ⟨?_, rfl⟩))
        rw [if_pos (Or.inr ⟨Int32.not_lt.1 h, Int32.not_lt.1 h2⟩)]
  refine mbletter_0 (fun h => ?_) (fun h => ?_)
  · exact t _ (fun q => Int32.not_lt.2 q.1 h)
  · refine mbletter_6 (fun h2 => ?_) (fun h2 => ?_)
    · refine mbletter_24 (mbletter_29 rfl (fun _ _ => ⟨?_, rfl⟩))
      rw [if_pos (Or.inl ⟨Int32.not_lt.1 h, h2⟩)]
    · exact t _ (fun q => h2 q.2)
theorem X6_byteAt_C {z : MZ} {d n k : Nat} {σ : MS} (hn : n ≤ 65536) (hs : σ.1 1 = nI n) (hk : k < 2 ^ 31) : ml_C z mX6_byteAt d 0 [vR (some z.2.1), vI (nI k)] σ (fun v σ' _ => v = some (vI (lx_at (σ.2 0) n k)) ∧ σ' = σ) (fun _ _ _ => False) := by
  refine ml_C_of (by decide) rfl (Nat.le_of_ble_eq_true rfl) ?_
  refine mbbyteAt_0 (fun h => ?_) (fun h => ?_)
  · rw [hs] at h
    have h' := (nI_leI (by omega) hk).1 h
    refine mbbyteAt_17 (mbbyteAt_18 (fun _ _ => ⟨?_, rfl⟩))
    rw [lx_at, if_neg (by omega)]
  · rw [hs] at h
    have h' : k < n := Nat.lt_of_not_le (fun q => h (nI_le q hk))
    refine mbbyteAt_8 (vp_in_nI (by omega) (by decide)) (mbbyteAt_18 (fun _ _ => ⟨?_, rfl⟩))
    rw [lx_at, if_pos h', nI_clamp hk]
