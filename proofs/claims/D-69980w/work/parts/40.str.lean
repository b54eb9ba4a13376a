/-! String of ASCII: length, charAt -/
set_option maxRecDepth 100000
/-- at a lies a String of n ASCII characters f -/
def hp_str (G : GH) (a n : Nat) (f : Nat → Nat) : Prop := hp_kd G a = 26 ∧ hp_i G a 1 = 0 ∧ n < 2 ^ 31 ∧ (∀ i, i < n → f i < 128) ∧ ∃ o, hp_r G a 0 = some o ∧ hp_kd G o = 30 ∧ hp_ln G o = n ∧ ∀ i, i < n → hp_i G o i = nI (f i)
theorem J13_coder_C {w : WD} {d a : Nat} {G : GH} (hk : hp_kd G a = 26) (hc : hp_i G a 1 = 0) : wk_C w mJ13_coder d 0 [vR (some a)] G (fun v G' => v = some (vI 0) ∧ G' = G) (fun _ _ _ => False) := by
  refine wk_C_of (by decide) rfl (Nat.le_of_ble_eq_true rfl) ?_
  refine blJ13_coder_0 (fun h => absurd h (by decide)) (fun _ => ?_)
  refine blJ13_coder_6 hk ?_
  rw [hc]
  exact blJ13_coder_14 rfl ⟨rfl, rfl⟩
theorem J13_length_C {w : WD} {d a n : Nat} {f : Nat → Nat} {G : GH} (h : hp_str G a n f) (hd : 1 ≤ d) : wk_C w mJ13_length d 0 [vR (some a)] G (fun v G' => v = some (vI (nI n)) ∧ G' = G) (fun _ _ _ => False) := by
  obtain ⟨hk, hc, hn, -, o, ho, hko, hl, -⟩ := h
  refine wk_C_of (by decide) rfl (Nat.le_of_ble_eq_true rfl) ?_
  refine blJ13_length_0 hk ho (by rw [hko]; decide) (J13_coder_C (d := 0) hk hc) hd (Nat.zero_le _) ?_ (fun _ _ _ q => absurd q id)
  rintro v G' ⟨rfl, rfl⟩
  refine blJ13_length_9 ⟨?_, rfl⟩
  rw [hl]
  have e0 : ((0 : Int32) &&& 31) = 0 := by decide
  rw [e0]
  simp
theorem J13_isLatin1_C {w : WD} {d a : Nat} {G : GH} (hk : hp_kd G a = 26) (hc : hp_i G a 1 = 0) : wk_C w mJ13_isLatin1 d 0 [vR (some a)] G (fun v G' => v = some (vI 1) ∧ G' = G) (fun _ _ _ => False) := by
  refine wk_C_of (by decide) rfl (Nat.le_of_ble_eq_true rfl) ?_
  refine blJ13_isLatin1_0 (fun h => absurd h (by decide)) (fun _ => ?_)
  refine blJ13_isLatin1_6 hk (fun h => absurd hc h) (fun _ => ?_)
  exact blJ13_isLatin1_13 (blJ13_isLatin1_18 rfl ⟨rfl, rfl⟩)
theorem J19_checkIndex_C {w : WD} {d i n : Nat} {q : Option Nat} {G : GH} (hi : i < n) (hn : n < 2 ^ 31) : wk_C w mJ19_checkIndex d 0 [vI (nI i), vI (nI n), vR q] G (fun v G' => v = some (vI (nI i)) ∧ G' = G) (fun _ _ _ => False) := by
  refine wk_C_of (by decide) rfl (by cases q <;> exact Nat.le_of_ble_eq_true rfl) ?_
  refine blJ19_checkIndex_0 (fun h => absurd h (nI_pos (by omega))) (fun _ => ?_)
  refine blJ19_checkIndex_4 (fun _ => ?_) (fun h => absurd (nI_lt hi hn) h)
  exact blJ19_checkIndex_16 ⟨rfl, rfl⟩
theorem J13_checkIndex_C {w : WD} {d i n : Nat} {G : GH} (hi : i < n) (hn : n < 2 ^ 31) (hd : 1 ≤ d) : wk_C w mJ13_checkIndex d 0 [vI (nI i), vI (nI n)] G (fun v G' => v = none ∧ G' = G) (fun _ _ _ => False) := by
  refine wk_C_of (by decide) rfl (Nat.le_of_ble_eq_true rfl) ?_
  refine blJ13_checkIndex_0 (J19_checkIndex_C (d := 0) hi hn) hd (Nat.zero_le _) ?_ (fun _ _ _ q => absurd q id)
  rintro v G' ⟨rfl, rfl⟩
  exact blJ13_checkIndex_8 ⟨rfl, rfl⟩
theorem lx_and255 : ∀ c, c < 128 → (nI c &&& (255 : Int32)) = nI c := by decide
theorem lx_char {c : Nat} (h : c < 128) : (((nI c &&& (255 : Int32)).toUInt32 % 65536).toInt32) = nI c := by
  have h1 := pk_charN (q := c) (by omega)
  rw [lx_and255 c h]
  have h2 : ∀ c, c < 128 → ((nI c).toUInt32 % 65536).toInt32 = nI c := by decide
  exact h2 c h
theorem J18_charAt_C {w : WD} {d o i n : Nat} {f : Nat → Nat} {G : GH} (hko : hp_kd G o = 30) (hl : hp_ln G o = n) (hn : n < 2 ^ 31) (hf : ∀ i, i < n → f i < 128) (ho : ∀ i, i < n → hp_i G o i = nI (f i)) (hi : i < n) (hd : 2 ≤ d) : wk_C w mJ18_charAt d 0 [vR (some o), vI (nI i)] G (fun v G' => v = some (vI (nI (f i))) ∧ G' = G) (fun _ _ _ => False) := by
  refine wk_C_of (by decide) rfl (Nat.le_of_ble_eq_true rfl) ?_
  refine blJ18_charAt_0 rfl (by rw [hko]; decide) (by rw [hl]; exact J13_checkIndex_C (d := 1) hi hn (Nat.le_refl 1)) hd (Nat.zero_le _) ?_ (fun _ _ _ q => absurd q id)
  rintro v G' ⟨rfl, rfl⟩
  refine blJ18_charAt_6 rfl (by rw [hl]; exact vp_in_nI hi hn) hko (pk_nc _) ⟨?_, rfl⟩
  rw [nI_clamp (by omega), ho i hi, lx_char (hf i hi)]
theorem J13_charAt_C {w : WD} {d a i n : Nat} {f : Nat → Nat} {G : GH} (h : hp_str G a n f) (hi : i < n) (hd : 3 ≤ d) : wk_C w mJ13_charAt d 0 [vR (some a), vI (nI i)] G (fun v G' => v = some (vI (nI (f i))) ∧ G' = G) (fun _ _ _ => False) := by
  obtain ⟨hk, hc, hn, hf, o, ho, hko, hl, hv⟩ := h
  refine wk_C_of (by decide) rfl (Nat.le_of_ble_eq_true rfl) ?_
  refine blJ13_charAt_0 hk (J13_isLatin1_C (d := 0) hk hc) (Nat.le_trans (by decide) hd) (Nat.zero_le _) ?_ (fun _ _ _ q => absurd q id)
  rintro v G' ⟨rfl, rfl⟩
  refine blJ13_charAt_4 (fun q => absurd q (by decide)) (fun _ => ?_)
  refine blJ13_charAt_7 (P := fun v G2 => v = some (vI (nI (f i))) ∧ G2 = G') (PX := fun _ _ _ => False) (d' := 2) (b' := 0) hk (by rw [ho]; exact J18_charAt_C hko hl hn hf hv hi (Nat.le_refl 2)) hd (Nat.zero_le _) ?_ (fun _ _ _ q => absurd q id)
  rintro v G' ⟨rfl, rfl⟩
  exact blJ13_charAt_15 (pk_charN (Nat.lt_trans (hf i hi) (by decide))).1 ⟨rfl, rfl⟩
/-- a String that the reference doesn't own, known from the start on -/
def ml_str (z : MZ) (a n : Nat) (f : Nat → Nat) : Prop := hp_str z.2.2.2 a n f ∧ ¬ ml_own z a ∧ ∀ o, hp_r z.2.2.2 a 0 = some o → ¬ ml_own z o
theorem ml_str.at {z : MZ} {a n : Nat} {f : Nat → Nat} {G : GH} (h : ml_str z a n f) (h2 : hp_fr (ml_own z) z.2.2.2 G) : hp_str G a n f := by
  obtain ⟨⟨hk, hc, hn, hf, o, ho, hko, hl, hv⟩, h3, h4⟩ := h
  obtain ⟨e1, e2, e3, e4, e5⟩ := h2 a (by rw [hk]; decide) h3
  obtain ⟨f1, f2, f3, f4, f5⟩ := h2 o (by rw [hko]; decide) (h4 o ho)
  exact ⟨e1.trans hk, by rw [e3]; exact hc, hn, hf, o, by rw [e4]; exact ho, f1.trans hko, f2.trans hl, by rw [f3]; exact hv⟩
theorem J13_length_M {z : MZ} {d a n : Nat} {f : Nat → Nat} {σ : MS} (h : ml_str z a n f) (hd : 1 ≤ d) : ml_C z mJ13_length d 0 [vR (some a)] σ (fun v σ' _ => v = some (vI (nI n)) ∧ σ' = σ) (fun _ _ _ => False) := fun G h1 h2 =>
  (J13_length_C (h.at h2.1) hd).mono (fun v G' q => by obtain ⟨rfl, rfl⟩ := q; exact ⟨σ, h1, h2, rfl, rfl⟩) (fun _ _ _ q => absurd q id)
theorem J13_charAt_M {z : MZ} {d a i n : Nat} {f : Nat → Nat} {σ : MS} (h : ml_str z a n f) (hi : i < n) (hd : 3 ≤ d) : ml_C z mJ13_charAt d 0 [vR (some a), vI (nI i)] σ (fun v σ' _ => v = some (vI (nI (f i))) ∧ σ' = σ) (fun _ _ _ => False) := fun G h1 h2 =>
  (J13_charAt_C (h.at h2.1) hi hd).mono (fun v G' q => by obtain ⟨rfl, rfl⟩ := q; exact ⟨σ, h1, h2, rfl, rfl⟩) (fun _ _ _ q => absurd q id)
