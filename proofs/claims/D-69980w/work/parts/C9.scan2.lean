/-! THE COMPONENT's READER: scan; where the reader stands -/
set_option maxRecDepth 100000
theorem lx_sign_12 {b c : Int32} : lx_sign b c ≠ 1 ∧ lx_sign b c ≠ 2 := by
  unfold lx_sign
  split
  · rename_i h
    rcases h with h | h | h | h | h | h | h <;> subst h <;> decide
  · split
    · rename_i h
      subst h
      split <;> decide
    · split
      · rename_i h
        subst h
        split
        · decide
        · split <;> decide
      · split
        · rename_i h
          subst h
          split <;> decide
        · split
          · rename_i h
            subst h
            split <;> decide
          · decide
/-- the reader stands at c, its sign is there -/
def rat (z : RZ) (c : Nat) (G : GH) : Prop := rb z G ∧ c ≤ rz_n z ∧ hp_i G z.2.1 3 = nI c ∧ hp_i G z.2.1 4 = nI (lx_end (rz_T z) (rz_n z) c) ∧ hp_r G z.2.1 6 = zg z.1 (lx_kind (rz_T z) (rz_n z) c) ∧
  (lx_kind (rz_T z) (rz_n z) c = 1 → ∃ a, hp_r G z.2.1 7 = some a ∧ st z.1 G a (wd (rz_T z) c (lx_end (rz_T z) (rz_n z) c))) ∧ (lx_kind (rz_T z) (rz_n z) c = 2 → hp_i G z.2.1 5 = pr_dig (rz_T z) (lx_end (rz_T z) (rz_n z) c) c 0)
/-- the lists, the map, the node of a reader don't change by scanning -/
def rs (z : RZ) (G G' : GH) : Prop := rf z G G' ∧ ∀ k, 8 ≤ k ∨ k < 2 → hp_r G' z.2.1 k = hp_r G z.2.1 k
theorem rs.id0 {z : RZ} {G : GH} : rs z G G := ⟨rf.id0, fun _ _ => rfl⟩
theorem rs.tr {z : RZ} {G G1 G2 : GH} (h : rs z G G1) (h2 : rs z G1 G2) : rs z G G2 := ⟨h.1.tr h2.1, fun k hk => (h2.2 k hk).trans (h.2 k hk)⟩
section
variable {z : RZ} {d : Nat} {G : GH}
theorem X3_scan_C {p : Nat} (h : rb z G) (h4 : hp_i G z.2.1 4 = nI p) (hp : p ≤ rz_n z) (hd : 7 ≤ d) : wk_C z.1 mX3_scan d 10 [vR (some z.2.1)] G (fun v G' => v = none ∧ rat z (lx_skip (rz_T z) (rz_n z) p) G' ∧ rs z G G') (fun _ _ _ => False) := by
  have k1 := h.1.1
  have kA := h.1.2.1
  have hn := h.2.2.2.1
  refine wk_C_of (by decide) rfl (Nat.le_of_ble_eq_true rfl) ?_
  refine blX3_scan_0 k1 ?_
  rw [h4]
  generalize hc : lx_skip (rz_T z) (rz_n z) p = c
  have hge := lx_skip_ge (T := rz_T z) (n := rz_n z) (rz_n z) p (by omega) hp
  rw [hc] at hge
  have tail : wk_V z.1 mX3_scan (d, 10, (fun v G' => v = none ∧ rat z c G' ∧ rs z G G'), (fun _ _ _ => False), hp_cs G, hp_ss G) 94 [(0, vR (some z.2.1)), (1, vI (nI c))] [] G 10 := by
    refine blX3_scan_94 k1 kA ?_
    have hR : rb z (hp_sR (hp_sI G z.2.1 3 (nI c)) z.2.1 7 none) := (h.sI (by decide)).sR (by decide)
    have hF : cf (fun a => a = z.2.1) G (hp_sR (hp_sI G z.2.1 3 (nI c)) z.2.1 7 none) := ((cf.rf (own := fun a => a = z.2.1)).sI (Or.inl rfl)).sR (Or.inl rfl)
    have h3 : hp_i (hp_sR (hp_sI G z.2.1 3 (nI c)) z.2.1 7 none) z.2.1 3 = nI c := by rw [hp_i_sR, hp_i_sI, if_pos rfl, if_pos rfl]
    have hrk : ∀ k, k ≠ 7 → hp_r (hp_sR (hp_sI G z.2.1 3 (nI c)) z.2.1 7 none) z.2.1 k = hp_r G z.2.1 k := fun k hk => by rw [hp_r_sR, if_pos rfl, if_neg hk, hp_r_sI]
    generalize hp_sR (hp_sI G z.2.1 3 (nI c)) z.2.1 7 none = G1 at hR hF h3 hrk
    have j1 := hR.1.1
    refine blX3_scan_104 j1 (X3_look_C (d := 0) hR (by omega)) (by show 0 + 1 ≤ d; omega) (Nat.zero_le _) ?_ (fun _ _ _ q => absurd q id)
    rintro v G' ⟨rfl, rfl⟩
    refine blX3_scan_109 j1 (fun q => ?_) (fun q => ?_)
    · rw [hR.1.2.2.2.2] at q
      have hlt : c < rz_n z := by
        rcases Nat.lt_or_ge c (rz_n z) with u | u
        · exact u
        · exact absurd (by rw [show c = rz_n z by omega]) q
      have el : lk z c = rz_T z c := by rw [lk, if_pos hlt]
      refine blX3_scan_129 (X3_letter_C (d := 0)) (by show 0 + 1 ≤ d; omega) (Nat.zero_le _) ?_ (fun _ _ _ q => absurd q id)
      rintro v G2 ⟨rfl, rfl⟩
      refine blX3_scan_133 (fun u => ?_) (fun u => ?_)
      · have u1 := lx_b0.1 u
        refine blX3_scan_143 (X3_digit_C (d := 0)) (by show 0 + 1 ≤ d; omega) (Nat.zero_le _) ?_ (fun _ _ _ q => absurd q id)
        rintro v G3 ⟨rfl, rfl⟩
        refine blX3_scan_147 (fun u => ?_) (fun u => ?_)
        · have u2 := lx_b0.1 u
          refine blX3_scan_157 j1 (by rw [nI_1]; exact X3_look_C (d := 0) hR (by omega)) (by show 0 + 1 ≤ d; omega) (Nat.zero_le _) ?_ (fun _ _ _ q => absurd q id)
          rintro v G4 ⟨rfl, rfl⟩
          refine blX3_scan_166 rfl j1 (X3_sign_C (d := 1) hR ⟨u1, u2⟩ (Nat.le_refl 1)) (by show 1 + 1 ≤ d; omega) (Nat.zero_le _) ?_ (fun _ _ _ q => absurd q id)
          rintro v G5 ⟨rfl, rfl⟩
          rw [el] at u1 u2 ⊢
          have es : lx_sign (rz_T z c) (lk z (c + 1)) = lx_sign (rz_T z c) (lx_at (rz_T z) (rz_n z) (c + 1)) := by
            unfold lx_sign
            simp only [lk_at (z := z) (i := c + 1) (x := 62) (by decide) (by decide), lk_at (z := z) (i := c + 1) (x := 61) (by decide) (by decide)]
          rw [es]
          have ek : lx_kind (rz_T z) (rz_n z) c = lx_sign (rz_T z c) (lx_at (rz_T z) (rz_n z) (c + 1)) := by
            unfold lx_kind
            rw [if_neg (by omega), if_neg u1, if_neg u2]
          have ee : lx_end (rz_T z) (rz_n z) c = c + (if 299 < lx_sign (rz_T z c) (lx_at (rz_T z) (rz_n z) (c + 1)) then 2 else 1) := by
            unfold lx_end
            rw [if_neg (by omega), if_neg u1, if_neg u2]
            split <;> rfl
          have h12 : lx_sign (rz_T z c) (lx_at (rz_T z) (rz_n z) (c + 1)) ≠ 1 ∧ lx_sign (rz_T z c) (lx_at (rz_T z) (rz_n z) (c + 1)) ≠ 2 := lx_sign_12
          have hFt : cf (fun a => a = z.2.1) G (tk_G z G4 (lx_sign (rz_T z c) (lx_at (rz_T z) (rz_n z) (c + 1))) (if 299 < lx_sign (rz_T z c) (lx_at (rz_T z) (rz_n z) (c + 1)) then 2 else 1)) := (hF.sR (Or.inl rfl)).sI (Or.inl rfl)
          refine blX3_scan_169 ⟨rfl, ⟨(hR.sR (by decide)).sI (by decide), hge.2, ?_, ?_, ?_, fun u => ?_, fun u => ?_⟩, rf_of hFt k1, fun k hk => ?_⟩
          · unfold tk_G
            rw [hp_i_sI, if_pos rfl, if_neg (by decide), hp_i_sR]; exact h3
          · unfold tk_G
            rw [hp_i_sI, if_pos rfl, if_pos rfl, h3, nI_add, ee]
          · unfold tk_G
            rw [hp_r_sI, hp_r_sR, if_pos rfl, if_pos rfl, ek]
          · rw [ek] at u; exact absurd u h12.1
          · rw [ek] at u; exact absurd u h12.2
          · unfold tk_G
            rw [hp_r_sI, hp_r_sR, if_pos rfl, if_neg (by omega)]
            exact hrk k (by omega)
        · have u2 := lx_b1 u
          rw [el] at u1 u2
          refine blX3_scan_150 j1 (X3_digits_C (d := 1) hR h3 hge.2 (Nat.le_refl 1)) (by show 1 + 1 ≤ d; omega) (Nat.zero_le _) ?_ (fun _ _ _ q => absurd q id)
          rintro v G5 ⟨rfl, G4, rfl, i1, i2, i3, i4, i5, i6⟩
          have ek : lx_kind (rz_T z) (rz_n z) c = (if lx_dend (rz_T z) (rz_n z) c ≤ c + 9 then 2 else 3) := by
            unfold lx_kind
            rw [if_neg (by omega), if_neg u1, if_pos u2]
          have ee : lx_end (rz_T z) (rz_n z) c = lx_dend (rz_T z) (rz_n z) c := by
            unfold lx_end
            rw [if_neg (by omega), if_neg u1, if_pos u2]
          have hde := lx_dend_ge (T := rz_T z) (n := rz_n z) (rz_n z) c (by omega) hge.2
          have hFt : cf (fun a => a = z.2.1) G (tk_G z G4 (if lx_dend (rz_T z) (rz_n z) c ≤ c + 9 then 2 else 3) (lx_dend (rz_T z) (rz_n z) c - c)) := ((hF.tr i4).sR (Or.inl rfl)).sI (Or.inl rfl)
          refine blX3_scan_154 (blX3_scan_169 ⟨rfl, ⟨(i1.sR (by decide)).sI (by decide), hge.2, ?_, ?_, ?_, fun u => ?_, fun u => ?_⟩, rf_of hFt k1, fun k hk => ?_⟩)
          · unfold tk_G
            rw [hp_i_sI, if_pos rfl, if_neg (by decide), hp_i_sR]; exact i2
          · unfold tk_G
            rw [hp_i_sI, if_pos rfl, if_pos rfl, i2, nI_add, ee, show c + (lx_dend (rz_T z) (rz_n z) c - c) = lx_dend (rz_T z) (rz_n z) c by omega]
          · unfold tk_G
            rw [hp_r_sI, hp_r_sR, if_pos rfl, if_pos rfl, ek]
          · rw [ek] at u
            split at u <;> exact absurd u (by decide)
          · rw [ek] at u
            have h9 : lx_dend (rz_T z) (rz_n z) c ≤ c + 9 := Decidable.byContradiction fun v => by
              rw [if_neg v] at u
              exact absurd u (by decide)
            unfold tk_G
            rw [hp_i_sI, if_pos rfl, if_neg (by decide), hp_i_sR, ee]
            exact i3 h9
          · unfold tk_G
            rw [hp_r_sI, hp_r_sR, if_pos rfl, if_neg (by omega), i6 k]
            exact hrk k (by omega)
      · have u1 := lx_b1 u
        rw [el] at u1
        refine blX3_scan_136 j1 (X3_word_C (d := 6) hR h3 hge.2 (Nat.le_refl 6)) (by show 6 + 1 ≤ d; omega) (Nat.le_refl _) ?_ (fun _ _ _ q => absurd q id)
        rintro v G5 ⟨rfl, w1, w2, w3, w4, w5, w6, w7⟩
        have ek : lx_kind (rz_T z) (rz_n z) c = (if lx_wend (rz_T z) (rz_n z) c ≤ c + 31 then 1 else 3) := by
          unfold lx_kind
          rw [if_neg (by omega), if_pos u1]
        have ee : lx_end (rz_T z) (rz_n z) c = lx_wend (rz_T z) (rz_n z) c := by
          unfold lx_end
          rw [if_neg (by omega), if_pos u1]
        refine blX3_scan_140 (blX3_scan_169 ⟨rfl, ⟨w1, hge.2, ?_, ?_, ?_, fun u => ?_, fun u => ?_⟩, rf_of (hF.tr w7) k1, fun k hk => ?_⟩)
        · rw [w2 3 (by decide)]; exact h3
        · rw [w3, ee]
        · rw [w4, ek]
        · rw [ee]
          refine w5 (Decidable.byContradiction fun v => ?_)
          rw [ek, if_neg v] at u
          exact absurd u (by decide)
        · rw [ek] at u
          split at u <;> exact absurd u (by decide)
        · rw [w6 k (by omega) (by omega)]
          exact hrk k (by omega)
    · rw [hR.1.2.2.2.2] at q
      have hcn : c = rz_n z := (nI_eq (by omega) (by omega)).1 q
      refine blX3_scan_118 j1 (X3_take_C (d := 0) (x := zg z.1 0) (k := nI 0) hR) (by show 0 + 1 ≤ d; omega) (Nat.zero_le _) ?_ (fun _ _ _ q => absurd q id)
      rintro v G5 ⟨rfl, rfl⟩
      have ek : lx_kind (rz_T z) (rz_n z) c = 0 := by
        unfold lx_kind
        rw [if_pos (by omega)]
      have ee : lx_end (rz_T z) (rz_n z) c = c := by
        unfold lx_end
        rw [if_pos (by omega)]
      have hFt : cf (fun a => a = z.2.1) G (tk_G z G' 0 0) := (hF.sR (Or.inl rfl)).sI (Or.inl rfl)
      refine blX3_scan_126 (blX3_scan_169 ⟨rfl, ⟨(hR.sR (by decide)).sI (by decide), hge.2, ?_, ?_, ?_, fun u => ?_, fun u => ?_⟩, rf_of hFt k1, fun k hk => ?_⟩)
      · rw [hp_i_sI, if_pos rfl, if_neg (by decide), hp_i_sR]; exact h3
      · rw [hp_i_sI, if_pos rfl, if_pos rfl, h3, nI_add, ee, Nat.add_zero]
      · rw [hp_r_sI, hp_r_sR, if_pos rfl, if_pos rfl, ek]
      · rw [ek] at u; exact absurd u (by decide)
      · rw [ek] at u; exact absurd u (by decide)
      · rw [hp_r_sI, hp_r_sR, if_pos rfl, if_neg (by omega)]
        exact hrk k (by omega)
  have fin : ∀ i, i = c → wk_V z.1 mX3_scan (d, 10, (fun v G' => v = none ∧ rat z c G' ∧ rs z G G'), (fun _ _ _ => False), hp_cs G, hp_ss G) 89 [(0, vR (some z.2.1)), (1, vI (nI i))] [] G 10 := by
    intro i hi
    subst hi
    exact blX3_scan_89 (blX3_scan_91 (blX3_scan_7 (fun _ => tail) (fun q => absurd rfl q)))
  have eol : ∀ e, (wk_V z.1 mX3_scan (d, 10, (fun v G' => v = none ∧ rat z c G' ∧ rs z G G'), (fun _ _ _ => False), hp_cs G, hp_ss G) 91 [(0, vR (some z.2.1)), (1, vI (nI e)), (2, vI 1)] [] G 10) → ∀ f i, rz_n z ≤ i + f → i ≤ rz_n z → lx_eol (rz_T z) (rz_n z) i = e → wk_V z.1 mX3_scan (d, 10, (fun v G' => v = none ∧ rat z c G' ∧ rs z G G'), (fun _ _ _ => False), hp_cs G, hp_ss G) 35 [(0, vR (some z.2.1)), (1, vI (nI i)), (2, vI 1)] [] G 10 := by
    intro e K f
    induction f with
    | zero =>
      intro i hf hi he
      have e1 : e = i := by rw [← he, lx_eol_0 (by omega)]
      subst e1
      refine blX3_scan_35 k1 (fun _ => K) (fun q => absurd ?_ q)
      rw [h.1.2.2.2.2]
      exact nI_le (by omega) (by omega)
    | succ f ih =>
      intro i hf hi he
      refine blX3_scan_35 k1 (fun q => ?_) (fun q => ?_)
      · rw [h.1.2.2.2.2] at q
        have hin := (nI_leI (by omega) (by omega)).1 q
        have e1 : e = i := by rw [← he, lx_eol_0 (by omega)]
        subst e1
        exact K
      · rw [h.1.2.2.2.2] at q
        have hin : i < rz_n z := Nat.lt_of_not_le fun u => q (nI_le u (by omega))
        refine blX3_scan_43 k1 (X3_look_C (d := 0) h (by omega)) (by show 0 + 1 ≤ d; omega) (Nat.zero_le _) ?_ (fun _ _ _ q => absurd q id)
        rintro v G' ⟨rfl, rfl⟩
        refine blX3_scan_48 (fun u => ?_) (fun u => ?_)
        · have u2 := ((lk_eq (by decide)).1 u).2
          have e1 : e = i := by rw [← he, lx_eol_0 (fun v => v.2 u2)]
          subst e1
          exact K
        · have u2 : rz_T z i ≠ 10 := fun v => u ((lk_eq (by decide)).2 ⟨hin, v⟩)
          refine blX3_scan_53 ?_
          rw [nI_1]
          exact ih (i + 1) (by omega) (by omega) (by rw [← he, lx_eol_1 ⟨hin, u2⟩])
  have loop : ∀ f i, rz_n z ≤ i + f → i ≤ rz_n z → lx_skip (rz_T z) (rz_n z) i = c → wk_V z.1 mX3_scan (d, 10, (fun v G' => v = none ∧ rat z c G' ∧ rs z G G'), (fun _ _ _ => False), hp_cs G, hp_ss G) 7 [(0, vR (some z.2.1)), (1, vI (nI i)), (2, vI 1)] [] G 10 := by
    intro f
    induction f with
    | zero =>
      intro i hf hi he
      have hin : i = rz_n z := by omega
      have el : lk z i = -1 := by rw [lk, if_neg (by omega)]
      have ei : i = c := by rw [← he, lx_skip_e (by omega)]
      refine blX3_scan_7 (fun q => absurd q (by decide)) (fun _ => ?_)
      refine blX3_scan_11 k1 (X3_look_C (d := 0) h (by omega)) (by show 0 + 1 ≤ d; omega) (Nat.zero_le _) ?_ (fun _ _ _ q => absurd q id)
      rintro v G' ⟨rfl, rfl⟩
      rw [el]
      refine blX3_scan_16 (fun _ => ?_) (fun q => absurd q (by decide))
      refine blX3_scan_59 (fun q => absurd q (by decide)) (fun _ => blX3_scan_65 (fun q => absurd q (by decide)) (fun _ => blX3_scan_71 (fun q => absurd q (by decide)) (fun _ => blX3_scan_77 (fun _ => fin i ei) (fun q => absurd q (by decide)))))
    | succ f ih =>
      intro i hf hi he
      refine blX3_scan_7 (fun q => absurd q (by decide)) (fun _ => ?_)
      refine blX3_scan_11 k1 (X3_look_C (d := 0) h (by omega)) (by show 0 + 1 ≤ d; omega) (Nat.zero_le _) ?_ (fun _ _ _ q => absurd q id)
      rintro v G' ⟨rfl, rfl⟩
      have blank : i < rz_n z → (rz_T z i = 32 ∨ rz_T z i = 9 ∨ rz_T z i = 10 ∨ rz_T z i = 13) → wk_V z.1 mX3_scan (d, 10, (fun v G1 => v = none ∧ rat z c G1 ∧ rs z G' G1), (fun _ _ _ => False), hp_cs G', hp_ss G') 83 [(0, vR (some z.2.1)), (1, vI (nI i)), (2, vI 1)] [] G' 10 := by
        intro hlt hb
        refine blX3_scan_83 (blX3_scan_91 ?_)
        rw [nI_1]
        exact ih (i + 1) (by omega) (by omega) (by rw [← he, lx_skip_b hlt hb])
      have o59 : (i < rz_n z → ¬ (rz_T z i = 45 ∧ lx_at (rz_T z) (rz_n z) (i + 1) = 45)) → wk_V z.1 mX3_scan (d, 10, (fun v G1 => v = none ∧ rat z c G1 ∧ rs z G' G1), (fun _ _ _ => False), hp_cs G', hp_ss G') 59 [(0, vR (some z.2.1)), (1, vI (nI i)), (2, vI 1), (3, vI (lk z i))] [] G' 10 := by
        intro hno
        refine blX3_scan_59 (fun q => blank ((lk_eq (by decide)).1 q).1 (Or.inl ((lk_eq (by decide)).1 q).2)) (fun q1 => ?_)
        refine blX3_scan_65 (fun q => blank ((lk_eq (by decide)).1 q).1 (Or.inr (Or.inl ((lk_eq (by decide)).1 q).2))) (fun q2 => ?_)
        refine blX3_scan_71 (fun q => blank ((lk_eq (by decide)).1 q).1 (Or.inr (Or.inr (Or.inl ((lk_eq (by decide)).1 q).2)))) (fun q3 => ?_)
        refine blX3_scan_77 (fun q4 => fin i ?_) (fun q => blank ((lk_eq (by decide)).1 q).1 (Or.inr (Or.inr (Or.inr ((lk_eq (by decide)).1 q).2))))
        rw [← he]
        by_cases hlt : i < rz_n z
        · rw [lx_skip_n (hno hlt)]
          rintro (u | u | u | u)
          · exact q1 ((lk_eq (by decide)).2 ⟨hlt, u⟩)
          · exact q2 ((lk_eq (by decide)).2 ⟨hlt, u⟩)
          · exact q3 ((lk_eq (by decide)).2 ⟨hlt, u⟩)
          · exact q4 ((lk_eq (by decide)).2 ⟨hlt, u⟩)
        · rw [lx_skip_e hlt]
      refine blX3_scan_16 (fun q => o59 (fun hlt u => q ((lk_eq (by decide)).2 ⟨hlt, u.1⟩))) (fun q => ?_)
      obtain ⟨hlt, h45⟩ := (lk_eq (by decide)).1 q
      refine blX3_scan_23 k1 (by rw [nI_1]; exact X3_look_C (d := 0) h (by omega)) (by show 0 + 1 ≤ d; omega) (Nat.zero_le _) ?_ (fun _ _ _ q => absurd q id)
      rintro v G2 ⟨rfl, rfl⟩
      refine blX3_scan_30 (fun q2 => o59 (fun _ u => q2 ((lk_at (by decide) (by decide)).2 u.2))) (fun q2 => ?_)
      have h2 := (lk_at (z := z) (by decide) (by decide)).1 q2
      have e0 := lx_eol_ge (T := rz_T z) (n := rz_n z) (rz_n z) (i + 1) (by omega)
      have e1 := lx_eol_le (T := rz_T z) (n := rz_n z) (rz_n z) (i + 1) (by omega) (by omega)
      exact eol (lx_eol (rz_T z) (rz_n z) (i + 1)) (blX3_scan_91 (ih _ (by omega) e1 (by rw [← he, lx_skip_r hlt ⟨h45, h2⟩]))) (rz_n z) i (by omega) (by omega) (by rw [lx_eol_1 ⟨hlt, by rw [h45]; decide⟩])
  exact loop (rz_n z) p (by omega) hp hc
end
