/-! THE COMPONENT's READER: what it knows; look, letter, digit, take -/
set_option maxRecDepth 100000
def zg_n (k : Int32) : String := if k = 0 then "END" else if k = 1 then "WORD" else if k = 2 then "NUMBER" else if k = 40 then "OPEN" else if k = 41 then "CLOSE" else if k = 58 then "COLON" else if k = 59 then "SEMI" else if k = 44 then "COMMA" else if k = 61 then "EQUAL" else if k = 300 then "OTHER" else if k = 60 then "LESS" else if k = 301 then "ATMOST" else if k = 62 then "MORE" else if k = 302 then "ATLEAST" else if k = 43 then "PLUS" else if k = 45 then "MINUS" else if k = 42 then "TIMES" else if k = 303 then "ARROW" else if k = 304 then "IMPLIES" else "BAD"
/-- the sign of a token's kind -/
def zg (w : WD) (k : Int32) : Option Nat := hp_sv w "StreamNodes$Sign" (zg_n k)
def zg_L : List Int32 := [0, 1, 2, 3, 40, 41, 58, 59, 44, 61, 300, 60, 301, 62, 302, 43, 45, 42, 303, 304]
def zg_ok (w : WD) : Prop := ∀ k ∈ zg_L, ∀ k' ∈ zg_L, zg w k = zg w k' → k = k'
theorem lx_sign_L {b c : Int32} : lx_sign b c ∈ zg_L := by
  unfold lx_sign
  split
  · rename_i h
    rcases h with h | h | h | h | h | h | h <;> subst h <;> decide
  · split
    · rename_i h
      subst h
      split <;> decide
    · split
      · rename_i h
        subst h
        split
        · decide
        · split <;> decide
      · split
        · rename_i h
          subst h
          split <;> decide
        · split
          · rename_i h
            subst h
            split <;> decide
          · decide
theorem lx_kind_L {T : Nat → Int32} {n c : Nat} : lx_kind T n c ∈ zg_L := by
  unfold lx_kind
  split
  · decide
  · split
    · split <;> decide
    · split
      · split <;> decide
      · exact lx_sign_L
/-- the world of a reader: constants; the reader, the tape, the Wrong; the tape's contents and size -/
abbrev RZ : Type := WD × Nat × Nat × Nat × (Nat → Int32) × Nat
def rz_T (z : RZ) : Nat → Int32 := z.2.2.2.2.1
def rz_n (z : RZ) : Nat := z.2.2.2.2.2
def rb (z : RZ) (G : GH) : Prop := (hp_kd G z.2.1 = 12 ∧ hp_A z.1 z.2.1 ∧ hp_r G z.2.1 0 = some z.2.2.2.1 ∧ hp_r G z.2.1 1 = some z.2.2.1 ∧ hp_i G z.2.1 2 = nI (rz_n z)) ∧ (hp_kd G z.2.2.2.1 = 3 ∧ hp_A z.1 z.2.2.2.1) ∧ (hp_kd G z.2.2.1 = 30 ∧ hp_ln G z.2.2.1 = 65536 ∧ ∀ i, i < rz_n z → hp_i G z.2.2.1 i = rz_T z i) ∧ rz_n z ≤ 5000 ∧ zg_ok z.1
/-- only the reader's later fields, and hashes of Strings, have changed -/
def rf (z : RZ) (G G' : GH) : Prop := cf (fun a => a = z.2.1 ∨ hp_kd G a = 26) G G' ∧ (∀ a l, hp_sc G a l → hp_sc G' a l) ∧ ∀ a l, st z.1 G a l → st z.1 G' a l
theorem rf.id0 {z : RZ} {G : GH} : rf z G G := ⟨cf.rf, fun _ _ h => h, fun _ _ h => h⟩
theorem rf.tr {z : RZ} {G G1 G2 : GH} (h : rf z G G1) (h2 : rf z G1 G2) : rf z G G2 :=
  ⟨h.1.tr2 h2.1 (fun a ha u => u.imp id (fun v => by rw [← h.1.kd ha]; exact v)), fun a l u => h2.2.1 a l (h.2.1 a l u), fun a l u => h2.2.2 a l (h.2.2 a l u)⟩
/-- what writes at the reader and at new cells leaves -/
theorem rf_of {z : RZ} {G G' : GH} (h : cf (fun a => a = z.2.1) G G') (hk : hp_kd G z.2.1 = 12) : rf z G G' := by
  have hs : ∀ a l, hp_sc G a l → hp_sc G' a l := fun a l u => by
    have ka : hp_kd G a = 26 := u.1
    have na : ¬ a = z.2.1 := fun e => by rw [e, hk] at ka; cases ka
    refine hp_str.fr u h ⟨h.r (by rw [ka]; decide) na, by rw [h.i (by rw [ka]; decide) na]⟩ (fun o ho e => ?_)
    obtain ⟨-, -, -, -, p, p1, p2, -⟩ := u
    rw [ho] at p1
    cases p1
    rw [e, hk] at p2
    cases p2
  refine ⟨h.mono (fun _ _ u => Or.inl u), hs, fun a l u => ?_⟩
  have ka : hp_kd G a = 26 := u.1.1
  have na : ¬ a = z.2.1 := fun e => by rw [e, hk] at ka; cases ka
  refine ⟨hs a l u.1, u.2.1, ?_⟩
  unfold hv
  rw [h.i (by rw [ka]; decide) na]
  exact u.2.2
section
variable {z : RZ} {d : Nat} {G : GH}
theorem rb.ne (h : rb z G) : z.2.2.1 ≠ z.2.1 ∧ z.2.2.2.1 ≠ z.2.1 := by
  obtain ⟨⟨k1, -⟩, ⟨k2, -⟩, ⟨k3, -⟩, -⟩ := h
  exact ⟨fun e => (by rw [e, k1] at k3; cases k3), fun e => (by rw [e, k1] at k2; cases k2)⟩
theorem rb.sI {k : Nat} {v : Int32} (h : rb z G) (hk : k ≠ 2) : rb z (hp_sI G z.2.1 k v) := by
  have hn := h.ne
  obtain ⟨⟨k1, k2, k3, k4, k5⟩, q2, ⟨k6, k7, k8⟩, k9⟩ := h
  exact ⟨⟨k1, k2, k3, k4, by rw [hp_i_sI, if_pos rfl, if_neg (Ne.symm hk)]; exact k5⟩, q2, ⟨k6, k7, fun i hi => by rw [hp_i_sI, if_neg hn.1]; exact k8 i hi⟩, k9⟩
theorem rb.sR {k : Nat} {v : Option Nat} (h : rb z G) (hk : 2 ≤ k) : rb z (hp_sR G z.2.1 k v) := by
  obtain ⟨⟨k1, k2, k3, k4, k5⟩, q2, ⟨k6, k7, k8⟩, k9⟩ := h
  exact ⟨⟨k1, k2, by rw [hp_r_sR, if_pos rfl, if_neg (by omega)]; exact k3, by rw [hp_r_sR, if_pos rfl, if_neg (by omega)]; exact k4, k5⟩, q2, ⟨k6, k7, k8⟩, k9⟩
theorem rb.fr {own : Nat → Prop} {G' : GH} (h : rb z G) (hf : cf own G G') (h1 : ¬ own z.2.1) (h2 : ¬ own z.2.2.1) : rb z G' := by
  obtain ⟨⟨k1, k2, k3, k4, k5⟩, ⟨q1, q2⟩, ⟨k6, k7, k8⟩, k9⟩ := h
  have ka : hp_kd G z.2.1 ≠ 0 := by rw [k1]; decide
  have kt : hp_kd G z.2.2.1 ≠ 0 := by rw [k6]; decide
  exact ⟨⟨hf.k k1 (by decide), k2, by rw [hf.r ka h1]; exact k3, by rw [hf.r ka h1]; exact k4, by rw [hf.i ka h1]; exact k5⟩, ⟨hf.k q1 (by decide), q2⟩, ⟨hf.k k6 (by decide), (hf.ln kt).trans k7, fun i hi => by rw [hf.i kt h2]; exact k8 i hi⟩, k9⟩
/-- the byte at i; -1 behind the end -/
def lk (z : RZ) (i : Nat) : Int32 := if i < rz_n z then rz_T z i else -1
theorem X3_look_C {i : Nat} (h : rb z G) (hi : i < 2 ^ 31) : wk_C z.1 mX3_look d 0 [vR (some z.2.1), vI (nI i)] G (fun v G' => v = some (vI (lk z i)) ∧ G' = G) (fun _ _ _ => False) := by
  obtain ⟨⟨k1, k2, k3, k4, k5⟩, -, ⟨k6, k7, k8⟩, k9, -⟩ := h
  refine wk_C_of (by decide) rfl (Nat.le_of_ble_eq_true rfl) ?_
  refine blX3_look_0 k1 (fun q => ?_) (fun q => ?_)
  · rw [k5] at q
    have hn := (nI_leI (by omega) hi).1 q
    exact blX3_look_17 (blX3_look_18 ⟨by rw [lk, if_neg (by omega)], rfl⟩)
  · rw [k5] at q
    have hn : i < rz_n z := Nat.lt_of_not_le fun u => q (nI_le u hi)
    refine blX3_look_8 k1 k4 (by rw [k7]; exact vp_in_nI (by omega) (by decide)) k6 (blX3_look_18 ⟨?_, rfl⟩)
    rw [nI_clamp hi, k8 i hn, lk, if_pos hn]
theorem X3_letter_C {x : Int32} {w : WD} : wk_C w mX3_letter d 0 [vI x] G (fun v G' => v = some (vI (if lx_lt x then 1 else 0)) ∧ G' = G) (fun _ _ _ => False) := by
  refine wk_C_of (by decide) rfl (Nat.le_of_ble_eq_true rfl) ?_
  have t : ¬ (97 ≤ x ∧ x ≤ 122) → wk_V w mX3_letter (d, 0, (fun v G' => v = some (vI (if lx_lt x then 1 else 0)) ∧ G' = G), (fun _ _ _ => False), hp_cs G, hp_ss G) 12 [(0, vI x)] [] G 0 := by
    intro h1
    refine blX3_letter_12 (fun h => ?_) (fun h => ?_)
    · refine blX3_letter_28 (blX3_letter_29 rfl ⟨?_, rfl⟩)
      rw [if_neg (fun q => q.elim h1 (fun q => Int32.not_lt.2 q.1 h))]
    · refine blX3_letter_18 (fun h2 => ?_) (fun h2 => ?_)
      · refine blX3_letter_28 (blX3_letter_29 rfl ⟨?_, rfl⟩)
        rw [if_neg (fun q => q.elim h1 (fun q => Int32.not_lt.2 q.2 h2))]
      · refine blX3_letter_24 (blX3_letter_29 rfl ⟨?_, rfl⟩)
        rw [if_pos (Or.inr ⟨Int32.not_lt.1 h, Int32.not_lt.1 h2⟩)]
  refine blX3_letter_0 (fun h => ?_) (fun h => ?_)
  · exact t (fun q => Int32.not_lt.2 q.1 h)
  · refine blX3_letter_6 (fun h2 => ?_) (fun h2 => ?_)
    · refine blX3_letter_24 (blX3_letter_29 rfl ⟨?_, rfl⟩)
      rw [if_pos (Or.inl ⟨Int32.not_lt.1 h, h2⟩)]
    · exact t (fun q => h2 q.2)
theorem X3_digit_C {x : Int32} {w : WD} : wk_C w mX3_digit d 0 [vI x] G (fun v G' => v = some (vI (if lx_dg x then 1 else 0)) ∧ G' = G) (fun _ _ _ => False) := by
  refine wk_C_of (by decide) rfl (Nat.le_of_ble_eq_true rfl) ?_
  refine blX3_digit_0 (fun h => ?_) (fun h => ?_)
  · refine blX3_digit_16 (blX3_digit_17 rfl ⟨?_, rfl⟩)
    rw [if_neg (fun q => Int32.not_lt.2 q.1 h)]
  · refine blX3_digit_6 (fun h2 => ?_) (fun h2 => ?_)
    · refine blX3_digit_16 (blX3_digit_17 rfl ⟨?_, rfl⟩)
      rw [if_neg (fun q => Int32.not_lt.2 q.2 h2)]
    · refine blX3_digit_12 (blX3_digit_17 rfl ⟨?_, rfl⟩)
      rw [if_pos ⟨Int32.not_lt.1 h, Int32.not_lt.1 h2⟩]
theorem X3_take_C {x : Option Nat} {k : Int32} (h : rb z G) : wk_C z.1 mX3_take d 0 [vR (some z.2.1), vR x, vI k] G (fun v G' => v = none ∧ G' = hp_sI (hp_sR G z.2.1 6 x) z.2.1 4 (hp_i G z.2.1 3 + k)) (fun _ _ _ => False) := by
  refine wk_C_of (by decide) rfl (by cases x <;> exact Nat.le_of_ble_eq_true rfl) ?_
  exact blX3_take_0 h.1.1 h.1.2.1 (blX3_take_15 ⟨rfl, rfl⟩)
/-- a byte of a word -/
abbrev lx_ch (b : Int32) : Prop := lx_lt b ∨ lx_dg b ∨ b = 95
theorem lx_ch.nat {b : Int32} (h : lx_ch b) : ∃ k, k < 128 ∧ b = nI k := by
  have h1 : (48 : Int32) ≤ b ∧ b ≤ 122 := by
    rcases h with (⟨a, b⟩ | ⟨a, b⟩) | ⟨a, b⟩ | rfl
    · exact ⟨Int32.le_trans (by decide) a, b⟩
    · exact ⟨Int32.le_trans (by decide) a, Int32.le_trans b (by decide)⟩
    · exact ⟨a, Int32.le_trans b (by decide)⟩
    · decide
  obtain ⟨j, j1, j2⟩ := nI_of2 (x := b) (M := 122) (n := 122) (by decide) (fun q => Int32.not_lt.2 (Int32.le_trans (show (0 : Int32) ≤ 48 by decide) h1.1) q) h1.2
  exact ⟨j, by omega, j2⟩
theorem lk_lt {i : Nat} : lx_lt (lk z i) ↔ i < rz_n z ∧ lx_lt (rz_T z i) := by
  unfold lk
  by_cases h : i < rz_n z
  · rw [if_pos h]; exact ⟨fun q => ⟨h, q⟩, fun q => q.2⟩
  · rw [if_neg h]; exact ⟨fun q => absurd q (by decide), fun q => absurd q.1 h⟩
theorem lk_dg {i : Nat} : lx_dg (lk z i) ↔ i < rz_n z ∧ lx_dg (rz_T z i) := by
  unfold lk
  by_cases h : i < rz_n z
  · rw [if_pos h]; exact ⟨fun q => ⟨h, q⟩, fun q => q.2⟩
  · rw [if_neg h]; exact ⟨fun q => absurd q (by decide), fun q => absurd q.1 h⟩
theorem lk_eq {i : Nat} {x : Int32} (hx : x ≠ -1) : lk z i = x ↔ i < rz_n z ∧ rz_T z i = x := by
  unfold lk
  by_cases h : i < rz_n z
  · rw [if_pos h]; exact ⟨fun q => ⟨h, q⟩, fun q => q.2⟩
  · rw [if_neg h]; exact ⟨fun q => absurd q.symm hx, fun q => absurd q.1 h⟩
/-- at the end there is 0 for the one, -1 for the other -/
theorem lk_at {i : Nat} {x : Int32} (h1 : x ≠ -1) (h0 : x ≠ 0) : lk z i = x ↔ lx_at (rz_T z) (rz_n z) i = x := by
  rw [lk_eq h1]
  unfold lx_at
  by_cases h : i < rz_n z
  · rw [if_pos h]; exact ⟨fun q => q.2, fun q => ⟨h, q⟩⟩
  · rw [if_neg h]; exact ⟨fun q => absurd q.1 h, fun q => absurd q.symm h0⟩
end
