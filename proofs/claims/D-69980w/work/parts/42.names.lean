/-! the reserved words; reserved, nameHere of the reference (written by tools/gen_res.py) -/
set_option maxRecDepth 100000
def lx_words : List String := ["node", "returns", "var", "let", "tel", "int", "bool", "when", "not", "and", "or", "xor", "if", "then", "else", "pre", "current", "fby", "div", "mod", "true", "false"]
def lx_chr (tx : String) (i : Nat) : Nat := (tx.toList.getD i ' ').toNat
abbrev lx_isW (T : Nat → Int32) (n c : Nat) (tx : String) : Prop := lx_is T n c tx.length (lx_chr tx)
/-- the words lie where the constants are -/
def ml_ws (z : MZ) : Prop := ∀ tx ∈ lx_words, ml_str z (hp_sa z.1 tx) tx.length (lx_chr tx)
abbrev lx_res (T : Nat → Int32) (n c : Nat) : Prop := lx_words.any (fun tx => decide (lx_isW T n c tx)) = true
/-- a state that has peeked is known by what stands outside the lexer -/
theorem lx_S.eq {n c : Nat} {σ σ' : MS} (h : lx_S n c σ) (h' : lx_S n c σ') (e : lx_nz σ' = lx_nz σ) : σ' = σ := by
  have e2 := lx_nz_2 e
  obtain ⟨-, a5, a9, a7, a8, a6⟩ := h
  obtain ⟨-, b5, b9, b7, b8, b6⟩ := h'
  rw [e2] at b8 b6
  refine Prod.ext (funext fun k => ?_) e2
  rcases Decidable.em (5 ≤ k ∧ k ≤ 9) with hk | hk
  · have : k = 5 ∨ k = 6 ∨ k = 7 ∨ k = 8 ∨ k = 9 := by omega
    rcases this with rfl | rfl | rfl | rfl | rfl
    · rw [a5, b5]
    · rw [a6, b6]
    · rw [a7, b7]
    · rw [a8, b8]
    · rw [a9, b9]
  · exact lx_nz_1 e k hk
theorem X6_isW_C {z : MZ} {d n c : Nat} {tx : String} {σ : MS} (h : lx_I n c σ) (hw : ml_ws z) (ht : tx ∈ lx_words) (hd : 4 ≤ d) : ml_C z mX6_is d 0 [vR (some z.2.1), vR (some (hp_sa z.1 tx))] σ (fun v σ' _ => v = some (vI (if lx_isW (σ.2 0) n c tx then 1 else 0)) ∧ lx_nz σ' = lx_nz σ ∧ lx_S n c σ') (fun _ _ _ => False) := X6_is_C h (hw tx ht) hd
theorem X6_isW_P {z : MZ} {d n c : Nat} {tx : String} {σ : MS} (h : lx_I n c σ) (hS : lx_S n c σ) (hw : ml_ws z) (ht : tx ∈ lx_words) (hd : 4 ≤ d) : ml_C z mX6_is d 0 [vR (some z.2.1), vR (some (hp_sa z.1 tx))] σ (fun v σ' _ => v = some (vI (if lx_isW (σ.2 0) n c tx then 1 else 0)) ∧ σ' = σ) (fun _ _ _ => False) := fun G h1 h2 =>
  ((X6_isW_C h hw ht hd) G h1 h2).mono (fun v G' q => by
    obtain ⟨σ', g1, g2, g3, g4, g5⟩ := q
    exact ⟨σ', g1, g2, g3, hS.eq g5 g4⟩) (fun _ _ _ q => by
    obtain ⟨q1, q2, σ', q3, q4, q5⟩ := q
    exact ⟨q1, q2, σ', q3, q4, q5⟩)
theorem lx_b1 {p : Prop} {i : Decidable p} (h : ¬ (@ite Int32 p i 1 0 = 0)) : p := Decidable.byContradiction fun u => h (lx_b0.2 u)
theorem X6_reserved_P {z : MZ} {d n c : Nat} {σ : MS} (h : lx_I n c σ) (hS : lx_S n c σ) (hw : ml_ws z) (hd : 5 ≤ d) : ml_C z mX6_reserved d 0 [vR (some z.2.1)] σ (fun v σ' _ => v = some (vI (if lx_res (σ.2 0) n c then 1 else 0)) ∧ σ' = σ) (fun _ _ _ => False) := by
  refine ml_C_of (by decide) rfl (Nat.le_of_ble_eq_true rfl) ?_
  have y1 : ∀ E tx, tx ∈ lx_words → lx_isW (σ.2 0) n c tx → ml_V z mX6_reserved (d, 0, (fun v σ' _ => v = some (vI (if lx_res (σ.2 0) n c then 1 else 0)) ∧ σ' = σ), fun _ _ _ => False) 220 [] [] σ E 0 := fun E tx ht hr => mbreserved_220 (mbreserved_225 rfl (fun _ _ => ⟨by rw [if_pos (List.any_eq_true.2 ⟨tx, ht, decide_eq_true hr⟩)], rfl⟩))
  have y0 : ∀ E, (∀ tx, tx ∈ lx_words → ¬ lx_isW (σ.2 0) n c tx) → ml_V z mX6_reserved (d, 0, (fun v σ' _ => v = some (vI (if lx_res (σ.2 0) n c then 1 else 0)) ∧ σ' = σ), fun _ _ _ => False) 224 [] [] σ E 0 := fun E hr => mbreserved_224 (mbreserved_225 rfl (fun _ _ => ⟨by
    rw [if_neg]
    intro u
    obtain ⟨tx, ht, e⟩ := List.any_eq_true.1 u
    exact hr tx ht (of_decide_eq_true e), rfl⟩))
  refine mbreserved_0 (X6_isW_P h hS hw (tx := "node") (by simp [lx_words]) (Nat.le_refl 4)) hd (Nat.zero_le _) (ml_pure ?_) ml_no
  refine mbreserved_7 (fun q => y1 _ "node" (by simp [lx_words]) (lx_b1 q)) (fun q0 => ?_)
  refine mbreserved_10 (X6_isW_P h hS hw (tx := "returns") (by simp [lx_words]) (Nat.le_refl 4)) hd (Nat.zero_le _) (ml_pure ?_) ml_no
  refine mbreserved_17 (fun q => y1 _ "returns" (by simp [lx_words]) (lx_b1 q)) (fun q1 => ?_)
  refine mbreserved_20 (X6_isW_P h hS hw (tx := "var") (by simp [lx_words]) (Nat.le_refl 4)) hd (Nat.zero_le _) (ml_pure ?_) ml_no
  refine mbreserved_27 (fun q => y1 _ "var" (by simp [lx_words]) (lx_b1 q)) (fun q2 => ?_)
  refine mbreserved_30 (X6_isW_P h hS hw (tx := "let") (by simp [lx_words]) (Nat.le_refl 4)) hd (Nat.zero_le _) (ml_pure ?_) ml_no
  refine mbreserved_37 (fun q => y1 _ "let" (by simp [lx_words]) (lx_b1 q)) (fun q3 => ?_)
  refine mbreserved_40 (X6_isW_P h hS hw (tx := "tel") (by simp [lx_words]) (Nat.le_refl 4)) hd (Nat.zero_le _) (ml_pure ?_) ml_no
  refine mbreserved_47 (fun q => y1 _ "tel" (by simp [lx_words]) (lx_b1 q)) (fun q4 => ?_)
  refine mbreserved_50 (X6_isW_P h hS hw (tx := "int") (by simp [lx_words]) (Nat.le_refl 4)) hd (Nat.zero_le _) (ml_pure ?_) ml_no
  refine mbreserved_57 (fun q => y1 _ "int" (by simp [lx_words]) (lx_b1 q)) (fun q5 => ?_)
  refine mbreserved_60 (X6_isW_P h hS hw (tx := "bool") (by simp [lx_words]) (Nat.le_refl 4)) hd (Nat.zero_le _) (ml_pure ?_) ml_no
  refine mbreserved_67 (fun q => y1 _ "bool" (by simp [lx_words]) (lx_b1 q)) (fun q6 => ?_)
  refine mbreserved_70 (X6_isW_P h hS hw (tx := "when") (by simp [lx_words]) (Nat.le_refl 4)) hd (Nat.zero_le _) (ml_pure ?_) ml_no
  refine mbreserved_77 (fun q => y1 _ "when" (by simp [lx_words]) (lx_b1 q)) (fun q7 => ?_)
  refine mbreserved_80 (X6_isW_P h hS hw (tx := "not") (by simp [lx_words]) (Nat.le_refl 4)) hd (Nat.zero_le _) (ml_pure ?_) ml_no
  refine mbreserved_87 (fun q => y1 _ "not" (by simp [lx_words]) (lx_b1 q)) (fun q8 => ?_)
  refine mbreserved_90 (X6_isW_P h hS hw (tx := "and") (by simp [lx_words]) (Nat.le_refl 4)) hd (Nat.zero_le _) (ml_pure ?_) ml_no
  refine mbreserved_97 (fun q => y1 _ "and" (by simp [lx_words]) (lx_b1 q)) (fun q9 => ?_)
  refine mbreserved_100 (X6_isW_P h hS hw (tx := "or") (by simp [lx_words]) (Nat.le_refl 4)) hd (Nat.zero_le _) (ml_pure ?_) ml_no
  refine mbreserved_107 (fun q => y1 _ "or" (by simp [lx_words]) (lx_b1 q)) (fun q10 => ?_)
  refine mbreserved_110 (X6_isW_P h hS hw (tx := "xor") (by simp [lx_words]) (Nat.le_refl 4)) hd (Nat.zero_le _) (ml_pure ?_) ml_no
  refine mbreserved_117 (fun q => y1 _ "xor" (by simp [lx_words]) (lx_b1 q)) (fun q11 => ?_)
  refine mbreserved_120 (X6_isW_P h hS hw (tx := "if") (by simp [lx_words]) (Nat.le_refl 4)) hd (Nat.zero_le _) (ml_pure ?_) ml_no
  refine mbreserved_127 (fun q => y1 _ "if" (by simp [lx_words]) (lx_b1 q)) (fun q12 => ?_)
  refine mbreserved_130 (X6_isW_P h hS hw (tx := "then") (by simp [lx_words]) (Nat.le_refl 4)) hd (Nat.zero_le _) (ml_pure ?_) ml_no
  refine mbreserved_137 (fun q => y1 _ "then" (by simp [lx_words]) (lx_b1 q)) (fun q13 => ?_)
  refine mbreserved_140 (X6_isW_P h hS hw (tx := "else") (by simp [lx_words]) (Nat.le_refl 4)) hd (Nat.zero_le _) (ml_pure ?_) ml_no
  refine mbreserved_147 (fun q => y1 _ "else" (by simp [lx_words]) (lx_b1 q)) (fun q14 => ?_)
  refine mbreserved_150 (X6_isW_P h hS hw (tx := "pre") (by simp [lx_words]) (Nat.le_refl 4)) hd (Nat.zero_le _) (ml_pure ?_) ml_no
  refine mbreserved_157 (fun q => y1 _ "pre" (by simp [lx_words]) (lx_b1 q)) (fun q15 => ?_)
  refine mbreserved_160 (X6_isW_P h hS hw (tx := "current") (by simp [lx_words]) (Nat.le_refl 4)) hd (Nat.zero_le _) (ml_pure ?_) ml_no
  refine mbreserved_167 (fun q => y1 _ "current" (by simp [lx_words]) (lx_b1 q)) (fun q16 => ?_)
  refine mbreserved_170 (X6_isW_P h hS hw (tx := "fby") (by simp [lx_words]) (Nat.le_refl 4)) hd (Nat.zero_le _) (ml_pure ?_) ml_no
  refine mbreserved_177 (fun q => y1 _ "fby" (by simp [lx_words]) (lx_b1 q)) (fun q17 => ?_)
  refine mbreserved_180 (X6_isW_P h hS hw (tx := "div") (by simp [lx_words]) (Nat.le_refl 4)) hd (Nat.zero_le _) (ml_pure ?_) ml_no
  refine mbreserved_187 (fun q => y1 _ "div" (by simp [lx_words]) (lx_b1 q)) (fun q18 => ?_)
  refine mbreserved_190 (X6_isW_P h hS hw (tx := "mod") (by simp [lx_words]) (Nat.le_refl 4)) hd (Nat.zero_le _) (ml_pure ?_) ml_no
  refine mbreserved_197 (fun q => y1 _ "mod" (by simp [lx_words]) (lx_b1 q)) (fun q19 => ?_)
  refine mbreserved_200 (X6_isW_P h hS hw (tx := "true") (by simp [lx_words]) (Nat.le_refl 4)) hd (Nat.zero_le _) (ml_pure ?_) ml_no
  refine mbreserved_207 (fun q => y1 _ "true" (by simp [lx_words]) (lx_b1 q)) (fun q20 => ?_)
  refine mbreserved_210 (X6_isW_P h hS hw (tx := "false") (by simp [lx_words]) (Nat.le_refl 4)) hd (Nat.zero_le _) (ml_pure ?_) ml_no
  refine mbreserved_217 (fun q21 => y0 _ (fun tx ht => ?_)) (fun q => y1 _ "false" (by simp [lx_words]) (lx_b1 q))
  simp only [lx_words, List.mem_cons, List.not_mem_nil, or_false] at ht
  rcases ht with rfl | rfl | rfl | rfl | rfl | rfl | rfl | rfl | rfl | rfl | rfl | rfl | rfl | rfl | rfl | rfl | rfl | rfl | rfl | rfl | rfl | rfl
  · exact lx_b0.1 q0
  · exact lx_b0.1 q1
  · exact lx_b0.1 q2
  · exact lx_b0.1 q3
  · exact lx_b0.1 q4
  · exact lx_b0.1 q5
  · exact lx_b0.1 q6
  · exact lx_b0.1 q7
  · exact lx_b0.1 q8
  · exact lx_b0.1 q9
  · exact lx_b0.1 q10
  · exact lx_b0.1 q11
  · exact lx_b0.1 q12
  · exact lx_b0.1 q13
  · exact lx_b0.1 q14
  · exact lx_b0.1 q15
  · exact lx_b0.1 q16
  · exact lx_b0.1 q17
  · exact lx_b0.1 q18
  · exact lx_b0.1 q19
  · exact lx_b0.1 q20
  · exact lx_b0.1 q21
/-- a name stands at c -/
abbrev lx_name (T : Nat → Int32) (n c : Nat) : Prop := lx_kind T n c = 1 ∧ ¬ lx_res T n c
theorem X6_nameHere_C {z : MZ} {d n c : Nat} {σ : MS} (h : lx_I n c σ) (hw : ml_ws z) (hd : 6 ≤ d) : ml_C z mX6_nameHere d 0 [vR (some z.2.1)] σ (fun v σ' _ => v = some (vI (if lx_name (σ.2 0) n c then 1 else 0)) ∧ lx_nz σ' = lx_nz σ ∧ lx_S n c σ') (fun _ _ _ => False) := by
  refine ml_C_of (by decide) rfl (Nat.le_of_ble_eq_true rfl) ?_
  refine mbnameHere_0 (X6_peek_C h (Nat.le_refl 2)) (Nat.le_trans (by decide) hd) (Nat.zero_le _) (ml_kr fun v σ' g => ?_) ml_no
  obtain ⟨rfl, h1, h2⟩ := g
  have hI := h.S h1 h2
  have hT : σ'.2 0 = σ.2 0 := by rw [lx_nz_2 h1]
  refine mbnameHere_4 (fun q => ?_) (fun q => ?_)
  · exact mbnameHere_19 (mbnameHere_20 rfl (fun _ _ => ⟨by rw [if_neg (fun u => q u.1)], h1, h2⟩))
  · refine mbnameHere_8 (X6_reserved_P hI h2 hw (Nat.le_refl 5)) hd (Nat.zero_le _) (ml_pure ?_) ml_no
    rw [hT]
    refine mbnameHere_12 (fun q2 => ?_) (fun q2 => ?_)
    · exact mbnameHere_19 (mbnameHere_20 rfl (fun _ _ => ⟨by rw [if_neg (fun u => u.2 (lx_b1 q2))], h1, h2⟩))
    · exact mbnameHere_15 (mbnameHere_20 rfl (fun _ _ => ⟨by rw [if_pos ⟨q, lx_b0.1 q2⟩], h1, h2⟩))
