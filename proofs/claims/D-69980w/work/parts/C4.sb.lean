/-! StringBuilder of ASCII: new, append(char), toString -/
set_option maxRecDepth 100000
/-- the builder a holds the characters l in the array o of the length c -/
def sb (w : WD) (G : GH) (a o c : Nat) (l : List Nat) : Prop := (hp_kd G a = 27 ∧ hp_A w a ∧ hp_i G a 1 = 0 ∧ hp_i G a 3 = nI l.length) ∧ hp_r G a 0 = some o ∧ (hp_kd G o = 30 ∧ hp_A w o ∧ hp_ln G o = c) ∧ (l.length ≤ c ∧ c < 2 ^ 20) ∧ ∀ i, i < l.length → hp_i G o i = nI (l.getD i 0) ∧ l.getD i 0 < 128
theorem fits_byte {c : Nat} (h : c < 128) : fits .byte (.int (nI c)) = true := by
  have : ∀ c, c < 128 → fits .byte (.int (nI c)) = true := by decide
  exact this c h
theorem char_byte {c : Nat} (h : c < 128) : (nI c).toInt8.toInt32.toInt8.toInt32 = nI c := by
  have : ∀ c, c < 128 → (nI c).toInt8.toInt32.toInt8.toInt32 = nI c := by decide
  exact this c h
theorem ls_getD_app {l : List Nat} {c i : Nat} : (l ++ [c]).getD i 0 = if i = l.length then c else l.getD i 0 := by
  rcases Nat.lt_trichotomy i l.length with h | h | h
  · rw [if_neg (by omega), List.getD_eq_getElem?_getD, List.getD_eq_getElem?_getD, List.getElem?_append_left h]
  · rw [if_pos h, h, List.getD_eq_getElem?_getD, List.getElem?_append_right (Nat.le_refl _), Nat.sub_self]
    rfl
  · rw [if_neg (by omega), List.getD_eq_getElem?_getD, List.getD_eq_getElem?_getD, List.getElem?_eq_none (by rw [List.length_append]; simp; omega), List.getElem?_eq_none (by omega)]
section
variable {w : WD} {d : Nat} {G : GH}
theorem J11_init_C {a : Nat} (hk : hp_kd G a = 27) (hA : hp_A w a) (h3 : hp_i G a 3 = 0) (hd : 1 ≤ d) : wk_C w mJ11_init d 2 [vR (some a), vI 16] G (fun v G' => v = none ∧ ∃ o, hp_kd G o = 0 ∧ sb w G' a o 16 [] ∧ cf (fun x => x = a) G G') (fun _ _ _ => False) := by
  refine wk_C_of (by decide) rfl (Nat.le_of_ble_eq_true rfl) ?_
  refine blJ11_init_0 hd (blJ11_init_4 (fun q => absurd q (by decide)) (fun _ => ?_))
  have c16 : (16 : Int32).toNatClampNeg = 16 := rfl
  refine blJ11_init_10 (by decide) (by decide) (by decide) (fun q hq hAq => ?_)
  rw [c16]
  have hne : a ≠ q := fun u => by rw [u, hq] at hk; cases hk
  have ka : hp_kd (hp_nw G q 30 16) a = 27 := by rw [hp_kd_nw, if_neg hne]; exact hk
  refine blJ11_init_14 rfl ka hA ka hA ?_
  refine blJ11_init_22 (blJ11_init_38 ⟨rfl, q, hq, ⟨⟨ka, hA, ?_, ?_⟩, ?_, ⟨?_, hAq, ?_⟩, ⟨Nat.zero_le _, by decide⟩, fun i hi => absurd hi (Nat.not_lt_zero i)⟩, ?_⟩)
  · rw [hp_i_sI, if_pos rfl, if_pos rfl]
  · rw [hp_i_sI, if_pos rfl, if_neg (by decide), hp_i_sR, hp_i_nw, if_neg hne, h3]; rfl
  · rw [hp_r_sI, hp_r_sR, if_pos rfl, if_pos rfl]
  · show hp_kd (hp_nw G q 30 16) q = 30
    rw [hp_kd_nw, if_pos rfl]
  · show hp_ln (hp_nw G q 30 16) q = 16
    rw [hp_ln_nw, if_pos rfl]
  · exact (((cf.rf (own := fun x => x = a)).nw hq).sR (Or.inl rfl)).sI (Or.inl rfl)
theorem J12_init_C {a : Nat} (hk : hp_kd G a = 27) (hA : hp_A w a) (h3 : hp_i G a 3 = 0) (hd : 2 ≤ d) : wk_C w mJ12_init d 2 [vR (some a)] G (fun v G' => v = none ∧ ∃ o, hp_kd G o = 0 ∧ sb w G' a o 16 [] ∧ cf (fun x => x = a) G G') (fun _ _ _ => False) := by
  refine wk_C_of (by decide) rfl (Nat.le_of_ble_eq_true rfl) ?_
  refine blJ12_init_0 (J11_init_C (d := 1) hk hA h3 (Nat.le_refl 1)) hd (Nat.le_refl _) ?_ (fun _ _ _ q => absurd q id)
  rintro v G' ⟨rfl, h⟩
  exact blJ12_init_6 ⟨rfl, h⟩
theorem J11_isLatin1_C {a : Nat} (hk : hp_kd G a = 27) (hc : hp_i G a 1 = 0) : wk_C w mJ11_isLatin1 d 0 [vR (some a)] G (fun v G' => v = some (vI 1) ∧ G' = G) (fun _ _ _ => False) := by
  refine wk_C_of (by decide) rfl (Nat.le_of_ble_eq_true rfl) ?_
  refine blJ11_isLatin1_0 (fun h => absurd h (by decide)) (fun _ => ?_)
  refine blJ11_isLatin1_6 hk (fun h => absurd hc h) (fun _ => ?_)
  exact blJ11_isLatin1_13 (blJ11_isLatin1_18 rfl ⟨rfl, rfl⟩)
theorem J18_canEncode_C {c : Nat} (hc : c < 128) : wk_C w mJ18_canEncode d 0 [vI (nI c)] G (fun v G' => v = some (vI 1) ∧ G' = G) (fun _ _ _ => False) := by
  refine wk_C_of (by decide) rfl (Nat.le_of_ble_eq_true rfl) ?_
  refine blJ18_canEncode_0 (fun q => ?_) (fun _ => ?_)
  · exact absurd q (nI_nlt (a := 255) (b := c) (by omega) (by decide))
  · exact blJ18_canEncode_7 (blJ18_canEncode_12 rfl ⟨rfl, rfl⟩)
/-- a byte[] in a longer array -/
theorem J17_copyOf_C {o c m : Nat} {f : Nat → Nat} (hk : hp_kd G o = 30) (hl : hp_ln G o = c) (hcm : c < m) (hm : m < 2 ^ 20) (hf : ∀ i, i < c → hp_i G o i = nI (f i) ∧ f i < 128) (hd : 1 ≤ d) : wk_C w mJ17_copyOf d (1 + m / 12) [vR (some o), vI (nI m)] G
    (fun v G' => ∃ q, v = some (vR (some q)) ∧ hp_kd G q = 0 ∧ hp_A w q ∧ hp_kd G' q = 30 ∧ hp_ln G' q = m ∧ (∀ i, i < c → hp_i G' q i = nI (f i)) ∧ cf (fun _ => False) G G') (fun _ _ _ => False) := by
  have ec : (nI m).toNatClampNeg = m := nI_clamp (by omega)
  have cc : (nI c).toNatClampNeg = c := nI_clamp (by omega)
  have c0 : (0 : Int32).toNatClampNeg = 0 := rfl
  refine wk_C_of (by decide) rfl (Nat.le_of_ble_eq_true rfl) ?_
  refine blJ17_copyOf_0 rfl (by rw [hk]; decide) (fun _ => ?_) (fun q => ?_)
  · refine blJ17_copyOf_14 (nI_pos (by omega)) (by rw [ec]; omega) (by rw [ec]; exact Nat.le_refl _) (fun q hq hA => ?_)
    rw [ec]
    have hne : o ≠ q := fun u => by rw [u, hq] at hk; cases hk
    have k1 : hp_kd (hp_nw G q 30 m) o = 30 := by rw [hp_kd_nw, if_neg hne]; exact hk
    have k2 : hp_kd (hp_nw G q 30 m) q = 30 := by rw [hp_kd_nw, if_pos rfl]
    have l1 : hp_ln (hp_nw G q 30 m) o = c := by rw [hp_ln_nw, if_neg hne]; exact hl
    have l2 : hp_ln (hp_nw G q 30 m) q = m := by rw [hp_ln_nw, if_pos rfl]
    have r1 : hp_i (hp_nw G q 30 m) o = hp_i G o := (hp_nw_ne o hne).2.2.1
    refine blJ17_copyOf_17 rfl (by rw [k1]; decide) hd ?_
    rw [l1, if_neg (nI_nlt (by omega) (by omega))]
    refine blJ17_copyOf_28_I rfl rfl hA (by decide) (by decide) (nI_pos (by omega)) (by rw [c0, cc, l1]; omega) (by rw [c0, cc, l2]; omega) hd (by rw [k2]; decide) (by rw [k1, k2]) (fun i hi => ?_) ?_
    · rw [cc] at hi
      rw [k2, r1, c0, Nat.zero_add, (hf i hi).1]
      exact fits_byte (hf i hi).2
    · rw [r1, c0, cc]
      refine blJ17_copyOf_31 ⟨q, rfl, hq, hA, k2, l2, fun i hi => ?_, (cf.rf.nw hq).setI (Or.inr hq)⟩
      rw [hp_i_setI, if_pos rfl, pk_cpy_in (Nat.zero_le _) (by omega), Nat.sub_zero, Nat.zero_add]
      exact (hf i hi).1
  · rw [hl] at q
    exact absurd ((nI_eq (by omega) (by omega)).1 q) (by omega)
theorem J11_newCapacity_C {a o c n : Nat} (hk : hp_kd G a = 27) (hc : hp_i G a 1 = 0) (ho : hp_r G a 0 = some o) (hko : hp_kd G o = 30) (hl : hp_ln G o = c) (hcn : c < n) (hn : n < 2 ^ 20) (hd : 2 ≤ d) : wk_C w mJ11_newCapacity d 0 [vR (some a), vI (nI n)] G (fun v G' => v = some (vI (nI (c + max (n - c) (c + 2)))) ∧ G' = G) (fun _ _ _ => False) := by
  have s0 : ((0 : Int32) &&& 31) = 0 := by decide
  have sl : ∀ x : Int32, x <<< (0 : Int32) = x := fun x => by simp
  have sr : ∀ x : Int32, x >>> (0 : Int32) = x := fun x => by simp
  refine wk_C_of (by decide) rfl (Nat.le_of_ble_eq_true rfl) ?_
  refine blJ11_newCapacity_0 hk ho (by rw [hko]; decide) (by
    rw [hc, hl, s0, sl, sl, pk_sub (by omega), show nI c + (2 : Int32) = nI (c + 2) from nI_add c 2]
    exact J15_newLength_C (d := 1) (by omega) (by omega) (by omega) (Nat.le_refl 1)) hd (Nat.zero_le _) ?_ (fun _ _ _ q => absurd q id)
  rintro v G' ⟨rfl, rfl⟩
  refine blJ11_newCapacity_32 (fun _ => ?_) (fun q => ?_)
  · refine blJ11_newCapacity_51 hk ⟨?_, rfl⟩
    rw [hc, s0, sr]
  · exact absurd ((nI_eq (b := 2147483647) (by omega) (by decide)).1 q) (by omega)
theorem J11_ensure_C {a o c : Nat} {l : List Nat} (h : sb w G a o c l) (hl : l.length < 2 ^ 16) (hcl : c = l.length ∨ l.length < c) (hc2 : c < 2 ^ 17) (hd : 3 ≤ d) : wk_C w mJ11_ensureCapacityInternal d (if l.length < c then 0 else 1 + (2 * c + 2) / 12) [vR (some a), vI (nI (l.length + 1))] G
    (fun v G' => v = none ∧ ∃ o', (o' = o ∨ hp_kd G o' = 0) ∧ sb w G' a o' (if l.length < c then c else 2 * c + 2) l ∧ l.length < (if l.length < c then c else 2 * c + 2) ∧ cf (fun x => x = a) G G') (fun _ _ _ => False) := by
  obtain ⟨⟨k1, kA, k2, k3⟩, k4, ⟨k5, k6, k7⟩, ⟨k8, k9⟩, k10⟩ := id h
  have s0 : ((0 : Int32) &&& 31) = 0 := by decide
  have sl : ∀ x : Int32, x <<< (0 : Int32) = x := fun x => by simp
  have sr : ∀ x : Int32, x >>> (0 : Int32) = x := fun x => by simp
  refine wk_C_of (by decide) rfl (Nat.le_of_ble_eq_true rfl) ?_
  refine blJ11_ensureCapacityInternal_0 k1 k4 (by rw [k5]; decide) (fun q => ?_) (fun q => ?_)
  · rw [k2, k7, s0, sr] at q
    have hlt : l.length < c := by
      rcases hcl with u | u
      · rw [u, pk_sub (by omega), show l.length + 1 - l.length = 1 by omega] at q
        exact absurd q (by decide)
      · exact u
    refine blJ11_ensureCapacityInternal_38 ⟨rfl, o, Or.inl rfl, ?_, ?_, cf.rf⟩
    · rw [if_pos hlt]; exact h
    · rw [if_pos hlt]; exact hlt
  · rw [k2, k7, s0, sr] at q
    have hlt : c = l.length := by
      rcases hcl with u | u
      · exact u
      · rcases Nat.lt_or_ge (l.length + 1) c with v | v
        · exact absurd (Int32.le_of_lt (pk_sneg (by omega) v)) q
        · rw [show l.length + 1 = c by omega, pk_sub (Nat.le_refl _), Nat.sub_self] at q
          exact absurd (by decide) q
    have hnl : ¬ l.length < c := by omega
    refine blJ11_ensureCapacityInternal_17 k1 (J11_newCapacity_C (d := 2) k1 k2 k4 k5 k7 (by omega) (by omega) (Nat.le_refl 2)) hd (Nat.zero_le _) ?_ (fun _ _ _ q => absurd q id)
    rintro v G' ⟨rfl, rfl⟩
    rw [show c + max (l.length + 1 - c) (c + 2) = 2 * c + 2 by omega, k4]
    refine blJ11_ensureCapacityInternal_27 k1 (by
      rw [k2, s0, sl]
      exact J17_copyOf_C (d := 1) k5 k7 (by omega) (by omega) (fun i hi => k10 i (by omega)) (Nat.le_refl 1)) (Nat.le_trans (by decide) hd) (by rw [if_neg hnl]; omega) ?_ (fun _ _ _ q => absurd q id)
    rintro v G2 ⟨p, rfl, hp, hA, q1, q2, q3, hf⟩
    have hap : a ≠ p := fun u => by rw [u, hp] at k1; cases k1
    have ka : hp_kd G' a ≠ 0 := by rw [k1]; decide
    refine blJ11_ensureCapacityInternal_35 rfl (hf.k k1 (by decide)) kA (blJ11_ensureCapacityInternal_38 ⟨rfl, p, Or.inr hp, ?_, ?_, ?_⟩)
    · rw [if_neg hnl]
      refine ⟨⟨hf.k k1 (by decide), kA, ?_, ?_⟩, ?_, ⟨q1, hA, q2⟩, ⟨by omega, by omega⟩, fun i hi => ⟨?_, (k10 i hi).2⟩⟩
      · show hp_i G2 a 1 = 0
        rw [hf.i ka id]; exact k2
      · show hp_i G2 a 3 = _
        rw [hf.i ka id]; exact k3
      · rw [hp_r_sR, if_pos rfl, if_pos rfl]
      · exact q3 i (by omega)
    · rw [if_neg hnl]; omega
    · exact (hf.mono (fun _ _ u => absurd u id)).sR (Or.inl rfl)
theorem J11_append_C {a o c ch : Nat} {l : List Nat} (h : sb w G a o c l) (hl : l.length < 2 ^ 16) (hc2 : c < 2 ^ 17) (hch : ch < 128) (hd : 4 ≤ d) : wk_C w mJ11_append d (if l.length < c then 0 else 1 + (2 * c + 2) / 12) [vR (some a), vI (nI ch)] G
    (fun v G' => v = some (vR (some a)) ∧ ∃ o', (o' = o ∨ hp_kd G o' = 0) ∧ sb w G' a o' (if l.length < c then c else 2 * c + 2) (l ++ [ch]) ∧ cf (fun x => x = a ∨ x = o) G G') (fun _ _ _ => False) := by
  obtain ⟨⟨k1, kA, k2, k3⟩, k4, ⟨k5, k6, k7⟩, ⟨k8, k9⟩, k10⟩ := id h
  refine wk_C_of (by decide) rfl (Nat.le_of_ble_eq_true rfl) ?_
  refine blJ11_append_0 k1 (by rw [k3, nI_1]; exact J11_ensure_C (d := 3) h hl (by omega) hc2 (Nat.le_refl 3)) hd (Nat.le_refl _) ?_ (fun _ _ _ q => absurd q id)
  rintro v G1 ⟨rfl, o', ho', h1, hlt, hf⟩
  generalize (if l.length < c then c else 2 * c + 2) = c' at h1 hlt ⊢
  obtain ⟨⟨j1, jA, j2, j3⟩, j4, ⟨j5, j6, j7⟩, ⟨j8, j9⟩, j10⟩ := id h1
  have hao : a ≠ o' := fun u => by rw [u, j5] at j1; cases j1
  refine blJ11_append_10 j1 (J11_isLatin1_C (d := 0) j1 j2) (Nat.le_trans (by decide) hd) (Nat.zero_le _) ?_ (fun _ _ _ q => absurd q id)
  rintro v G2 ⟨rfl, rfl⟩
  refine blJ11_append_14 (fun q => absurd q (by decide)) (fun _ => ?_)
  refine blJ11_append_17 (J18_canEncode_C (d := 0) hch) (Nat.le_trans (by decide) hd) (Nat.zero_le _) ?_ (fun _ _ _ q => absurd q id)
  rintro v G3 ⟨rfl, rfl⟩
  refine blJ11_append_21 (fun q => absurd q (by decide)) (fun _ => ?_)
  refine blJ11_append_24 j1 jA j4 (by rw [j3, j7]; exact vp_in_nI hlt (by omega)) j6 j5 ?_
  rw [j3, nI_clamp (by omega), char_byte hch, nI_1]
  refine blJ11_append_42 (blJ11_append_75 ⟨rfl, o', ho', ⟨⟨j1, jA, ?_, ?_⟩, j4, ⟨j5, j6, j7⟩, ⟨by rw [List.length_append]; exact hlt, j9⟩, fun i hi => ?_⟩, ?_⟩)
  · rw [hp_i_sI, if_neg hao, hp_i_sI, if_pos rfl, if_neg (by decide)]; exact j2
  · rw [hp_i_sI, if_neg hao, hp_i_sI, if_pos rfl, if_pos rfl, List.length_append]
    rfl
  · rw [List.length_append] at hi
    have hi' : i < l.length + 1 := hi
    rw [ls_getD_app, hp_i_sI, if_pos rfl]
    by_cases u : i = l.length
    · rw [if_pos u, if_pos u]; exact ⟨rfl, hch⟩
    · rw [if_neg u, if_neg u, hp_i_sI, if_neg (Ne.symm hao)]; exact j10 i (by omega)
  · refine ((hf.mono (fun y _ u => Or.inl u)).sI (Or.inl (Or.inl rfl))).sI ?_
    rcases ho' with u | u
    · exact Or.inl (Or.inr u)
    · exact Or.inr u
theorem J12_append_C {a o c ch : Nat} {l : List Nat} (h : sb w G a o c l) (hl : l.length < 2 ^ 16) (hc2 : c < 2 ^ 17) (hch : ch < 128) (hd : 5 ≤ d) : wk_C w mJ12_append d (if l.length < c then 0 else 1 + (2 * c + 2) / 12) [vR (some a), vI (nI ch)] G
    (fun v G' => v = some (vR (some a)) ∧ ∃ o', (o' = o ∨ hp_kd G o' = 0) ∧ sb w G' a o' (if l.length < c then c else 2 * c + 2) (l ++ [ch]) ∧ cf (fun x => x = a ∨ x = o) G G') (fun _ _ _ => False) := by
  refine wk_C_of (by decide) rfl (Nat.le_of_ble_eq_true rfl) ?_
  refine blJ12_append_0 h.1.1 (J11_append_C (d := 4) h hl hc2 hch (Nat.le_refl 4)) hd (Nat.le_refl _) ?_ (fun _ _ _ q => absurd q id)
  rintro v G1 ⟨rfl, h1⟩
  exact blJ12_append_5 ⟨rfl, h1⟩
end
