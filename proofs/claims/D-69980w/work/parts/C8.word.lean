/-! THE COMPONENT's READER: words -/
set_option maxRecDepth 100000
/-- the characters from c on up to e -/
def wd (T : Nat → Int32) (c e : Nat) : List Nat := (List.range (e - c)).map (fun i => (T (c + i)).toNatClampNeg)
theorem wd_len {T : Nat → Int32} {c e : Nat} : (wd T c e).length = e - c := by unfold wd; rw [List.length_map, List.length_range]
theorem wd_snoc {T : Nat → Int32} {c e : Nat} (h : c ≤ e) : wd T c (e + 1) = wd T c e ++ [(T e).toNatClampNeg] := by
  unfold wd
  rw [show e + 1 - c = (e - c) + 1 by omega, List.range_succ, List.map_append]
  congr 2
  show [(T (c + (e - c))).toNatClampNeg] = _
  rw [show c + (e - c) = e by omega]
theorem wd_nil {T : Nat → Int32} {c : Nat} : wd T c c = [] := by unfold wd; rw [Nat.sub_self]; rfl
theorem wd_get {T : Nat → Int32} {c e i : Nat} (h : i < e - c) : (wd T c e).getD i 0 = (T (c + i)).toNatClampNeg := by
  rw [ls_get (by rw [wd_len]; exact h)]
  unfold wd
  rw [List.getElem_map, List.getElem_range]
theorem char_16 {c : Nat} (h : c < 128) : ((nI c).toUInt32 % 65536).toInt32 = nI c := by
  have h2 : ∀ c, c < 128 → ((nI c).toUInt32 % 65536).toInt32 = nI c := by decide
  exact h2 c h
section
variable {z : RZ} {d : Nat} {G : GH}
/-- among the characters of a word from c on, at i: the builder q in the array o of the length m -/
def wo_I (z : RZ) (G0 G : GH) (c i q o m : Nat) : Prop := rb z G ∧ (∀ k, hp_i G z.2.1 k = hp_i G0 z.2.1 k) ∧ (∀ k, hp_r G z.2.1 k = hp_r G0 z.2.1 k) ∧ sb z.1 G q o m (wd (rz_T z) c (min i (c + 31))) ∧ (m = 16 ∨ m = 34) ∧ cf (fun _ => False) G0 G ∧ hp_kd G0 q = 0 ∧ hp_kd G0 o = 0
/-- what word leaves -/
def wo_P (z : RZ) (G0 : GH) (c e : Nat) (G' : GH) : Prop := rb z G' ∧ (∀ k, k ≠ 4 → hp_i G' z.2.1 k = hp_i G0 z.2.1 k) ∧ hp_i G' z.2.1 4 = nI e ∧ hp_r G' z.2.1 6 = zg z.1 (if e ≤ c + 31 then 1 else 3) ∧ (e ≤ c + 31 → ∃ a, hp_r G' z.2.1 7 = some a ∧ st z.1 G' a (wd (rz_T z) c e)) ∧ (∀ k, k ≠ 6 → k ≠ 7 → hp_r G' z.2.1 k = hp_r G0 z.2.1 k) ∧ cf (fun a => a = z.2.1) G0 G'
theorem X3_word_C {c : Nat} (h : rb z G) (h3 : hp_i G z.2.1 3 = nI c) (hc : c ≤ rz_n z) (hd : 6 ≤ d) : wk_C z.1 mX3_word d 10 [vR (some z.2.1)] G (fun v G' => v = none ∧ wo_P z G c (lx_wend (rz_T z) (rz_n z) c) G') (fun _ _ _ => False) := by
  have k1 := h.1.1
  have kA := h.1.2.1
  have hn := h.2.2.2.1
  have hsg := h.2.2.2.2
  refine wk_C_of (by decide) rfl (Nat.le_of_ble_eq_true rfl) ?_
  refine blX3_word_0 (by decide) (fun q hq hA => ?_)
  have hf0 : cf (fun _ => False) G (hp_nw G q 27 0) := cf.rf.nw hq
  have kq : hp_kd (hp_nw G q 27 0) q = 27 := by rw [hp_kd_nw, if_pos rfl]
  refine blX3_word_3 rfl (J12_init_C (d := 2) kq hA (by rw [hp_i_nw, if_pos rfl]) (Nat.le_refl 2)) (by show 2 + 1 ≤ d; omega) (by decide) ?_ (fun _ _ _ q => absurd q id)
  rintro v G1 ⟨rfl, o, ho, hsb, hf1⟩
  have hqR : z.2.1 ≠ q := fun u => by rw [← u, k1] at hq; cases hq
  have hqT : z.2.2.1 ≠ q := fun u => by rw [← u, h.2.2.1.1] at hq; cases hq
  have hF : cf (fun _ => False) G G1 := fun x hx => by
    have hxq : x ≠ q := fun u => hx (by rw [u]; exact hq)
    obtain ⟨e1, e2⟩ := hf0 x hx
    obtain ⟨f1, f2⟩ := hf1 x (hf0.ne hx)
    obtain ⟨g1, g2, g3⟩ := e2 id
    obtain ⟨l1, l2, l3⟩ := f2 hxq
    exact ⟨⟨f1.1.trans e1.1, f1.2.1.trans e1.2.1, f1.2.2.trans e1.2.2⟩, fun _ => ⟨l1.trans g1, l2.trans g2, l3.trans g3⟩⟩
  have kR : hp_kd G z.2.1 ≠ 0 := by rw [k1]; decide
  have ho0 : hp_kd G o = 0 := hf0.fresh ho
  have hI0 : wo_I z G G1 c c q o 16 := ⟨h.fr hF id id, fun k => by rw [hF.i kR id], fun k => by rw [hF.r kR id], by rw [Nat.min_eq_left (by omega), wd_nil]; exact hsb, Or.inl rfl, hF, hq, ho0⟩
  refine blX3_word_7 (hF.k k1 (by decide)) ?_
  rw [hI0.2.1 3, h3]
  generalize he : lx_wend (rz_T z) (rz_n z) c = e
  have hge := lx_wend_ge (T := rz_T z) (n := rz_n z) (rz_n z) c (by omega) hc
  rw [he] at hge
  have out : ∀ G2 o m, wo_I z G G2 c e q o m → wk_V z.1 mX3_word (d, 10, (fun v G' => v = none ∧ wo_P z G c e G'), (fun _ _ _ => False), hp_cs G, hp_ss G) 73 [(0, vR (some z.2.1)), (1, vR (some q)), (2, vI (nI e))] [] G2 4 := by
    intro G2 o m hI
    obtain ⟨i1, i2, i3, i4, i5, i6, i7, i8⟩ := id hI
    have j1 := i1.1.1
    have e3 : hp_i G2 z.2.1 3 = nI c := by rw [i2 3]; exact h3
    refine blX3_word_73 j1 (fun u => ?_) (fun u => ?_)
    · rw [e3, pk_sub hge.1] at u
      have hle : e ≤ c + 31 := by
        have := (nI_leI (a := e - c) (b := 31) (by omega) (by decide)).1 u
        omega
      refine blX3_word_91 (blX3_word_94 j1 rfl j1 (by rw [e3, pk_sub hge.1]; exact X3_take_C (d := 0) (x := zg z.1 1) (k := nI (e - c)) i1) (by show 0 + 1 ≤ d; omega) (Nat.zero_le _) ?_ (fun _ _ _ q => absurd q id))
      rintro v G' ⟨rfl, rfl⟩
      have hft : cf (fun a => a = z.2.1) G2 (hp_sI (hp_sR G2 z.2.1 6 (zg z.1 1)) z.2.1 4 (hp_i G2 z.2.1 3 + nI (e - c))) := ((cf.rf (own := fun a => a = z.2.1)).sR (Or.inl rfl)).sI (Or.inl rfl)
      have hq2 : q ≠ z.2.1 := Ne.symm hqR
      have ho2 : o ≠ z.2.1 := fun u => by rw [u, k1] at i8; cases i8
      rw [Nat.min_eq_left hle] at i4
      have hs3 : sb z.1 (hp_sI (hp_sR G2 z.2.1 6 (zg z.1 1)) z.2.1 4 (hp_i G2 z.2.1 3 + nI (e - c))) q o m (wd (rz_T z) c e) := i4.fr hft hq2 ho2
      refine blX3_word_103 j1 (fun u => absurd (by rw [hp_r_sI, hp_r_sR, if_pos rfl, if_pos rfl]; rfl) u) (fun _ => ?_)
      refine blX3_word_113 rfl hs3.1.1 (J12_toString_C (d := 5) hs3 (by rw [wd_len]; omega) (Nat.le_refl 5)) (by show 5 + 1 ≤ d; omega) (by rw [wd_len]; omega) ?_ (fun _ _ _ q => absurd q id)
      rintro v G3 ⟨p, rfl, hp, hst, hfs⟩
      have rb2 : rb z (hp_sI (hp_sR G2 z.2.1 6 (zg z.1 1)) z.2.1 4 (hp_i G2 z.2.1 3 + nI (e - c))) := (i1.sR (by decide)).sI (by decide)
      have rb3 : rb z G3 := rb2.fr hfs id id
      have kR2 : hp_kd (hp_sI (hp_sR G2 z.2.1 6 (zg z.1 1)) z.2.1 4 (hp_i G2 z.2.1 3 + nI (e - c))) z.2.1 ≠ 0 := by show hp_kd G2 z.2.1 ≠ 0; rw [j1]; decide
      have hpR : p ≠ z.2.1 := fun u => kR2 (by rw [← u]; exact hp)
      refine blX3_word_118 rfl rb3.1.1 kA (blX3_word_121 ⟨rfl, rb3.sR (by decide), fun k hk => ?_, ?_, ?_, fun _ => ⟨p, ?_, ?_⟩, fun k h6 h7 => ?_, ?_⟩)
      · show hp_i G3 z.2.1 k = _
        rw [hfs.i kR2 id, hp_i_sI, if_pos rfl, if_neg hk]; exact i2 k
      · show hp_i G3 z.2.1 4 = _
        rw [hfs.i kR2 id, hp_i_sI, if_pos rfl, if_pos rfl, e3, nI_add, show c + (e - c) = e by omega]
      · rw [hp_r_sR, if_pos rfl, if_neg (by decide), hfs.r kR2 id, hp_r_sI, hp_r_sR, if_pos rfl, if_pos rfl, if_pos hle]
      · rw [hp_r_sR, if_pos rfl, if_pos rfl]
      · have hff : cf (fun a => a = z.2.1) G3 (hp_sR G3 z.2.1 7 (some p)) := cf.rf.sR (Or.inl rfl)
        exact (rf_of hff rb3.1.1).2.2 p _ hst
      · rw [hp_r_sR, if_pos rfl, if_neg h7, hfs.r kR2 id, hp_r_sI, hp_r_sR, if_pos rfl, if_neg h6]; exact i3 k
      · refine cf.sR ?_ (Or.inl rfl)
        exact ((i6.mono (fun _ _ u => absurd u id)).tr2 hft (fun _ _ u => u)).tr2 hfs (fun _ _ u => absurd u id)
    · rw [e3, pk_sub hge.1] at u
      have hle : ¬ e ≤ c + 31 := fun v => u (show nI (e - c) ≤ nI 31 from nI_le (by omega) (by decide))
      refine blX3_word_85 (blX3_word_94 j1 rfl j1 (by rw [e3, pk_sub hge.1]; exact X3_take_C (d := 0) (x := zg z.1 3) (k := nI (e - c)) i1) (by show 0 + 1 ≤ d; omega) (Nat.zero_le _) ?_ (fun _ _ _ q => absurd q id))
      rintro v G' ⟨rfl, rfl⟩
      have hft : cf (fun a => a = z.2.1) G2 (hp_sI (hp_sR G2 z.2.1 6 (zg z.1 3)) z.2.1 4 (hp_i G2 z.2.1 3 + nI (e - c))) := ((cf.rf (own := fun a => a = z.2.1)).sR (Or.inl rfl)).sI (Or.inl rfl)
      refine blX3_word_103 j1 (fun _ => ?_) (fun u => ?_)
      · refine blX3_word_121 ⟨rfl, (i1.sR (by decide)).sI (by decide), fun k hk => ?_, ?_, ?_, fun v => absurd v hle, fun k h6 h7 => ?_, (i6.mono (fun _ _ u => absurd u id)).tr2 hft (fun _ _ u => u)⟩
        · rw [hp_i_sI, if_pos rfl, if_neg hk]; exact i2 k
        · rw [hp_i_sI, if_pos rfl, if_pos rfl, e3, nI_add, show c + (e - c) = e by omega]
        · rw [hp_r_sI, hp_r_sR, if_pos rfl, if_pos rfl, if_neg hle]
        · rw [hp_r_sI, hp_r_sR, if_pos rfl, if_neg h6]; exact i3 k
      · rw [hp_r_sI, hp_r_sR, if_pos rfl, if_pos rfl] at u
        exact absurd (hsg 3 (by decide) 1 (by decide) u) (by decide)
  have nx : ∀ i G2 o m r, i ≤ rz_n z → c ≤ i → i < rz_n z → lx_ch (rz_T z i) → wo_I z G G2 c i q o m → (m = 16 → 7 ≤ r) → 4 ≤ r →
      (∀ G3 o' m' r', wo_I z G G3 c (i + 1) q o' m' → (m' = 16 → 7 ≤ r') → 4 ≤ r' → wk_V z.1 mX3_word (d, 10, (fun v G' => v = none ∧ wo_P z G c e G'), (fun _ _ _ => False), hp_cs G, hp_ss G) 13 [(0, vR (some z.2.1)), (1, vR (some q)), (2, vI (nI (i + 1)))] [] G3 r') →
      wk_V z.1 mX3_word (d, 10, (fun v G' => v = none ∧ wo_P z G c e G'), (fun _ _ _ => False), hp_cs G, hp_ss G) 45 [(0, vR (some z.2.1)), (1, vR (some q)), (2, vI (nI i))] [] G2 r := by
    intro i G2 o m r hin hci hlt hch hI hr16 hr4 kk
    obtain ⟨i1, i2, i3, i4, i5, i6, i7, i8⟩ := id hI
    have j1 := i1.1.1
    have e3 : hp_i G2 z.2.1 3 = nI c := by rw [i2 3]; exact h3
    refine blX3_word_45 j1 (fun u => ?_) (fun u => ?_)
    · rw [e3, pk_sub hci] at u
      have h31 := (nI_leI (a := 31) (b := i - c) (by decide) (by omega)).1 u
      refine blX3_word_67 ?_
      rw [nI_1]
      refine kk G2 o m r ⟨i1, i2, i3, ?_, i5, i6, i7, i8⟩ hr16 hr4
      rw [Nat.min_eq_right (by omega)] at i4 ⊢
      exact i4
    · rw [e3, pk_sub hci] at u
      have h31 : i - c < 31 := Nat.lt_of_not_le fun v => u (show nI 31 ≤ nI (i - c) from nI_le v (by omega))
      rw [Nat.min_eq_left (by omega)] at i4
      obtain ⟨ch, hch1, hch2⟩ := hch.nat
      refine blX3_word_56 j1 (X3_look_C (d := 0) i1 (by omega)) (by show 0 + 1 ≤ d; omega) (Nat.zero_le _) ?_ (fun _ _ _ q => absurd q id)
      rintro v G' ⟨rfl, rfl⟩
      have el : lk z i = nI ch := by rw [lk, if_pos hlt, hch2]
      have hm : m < 2 ^ 17 := by omega
      refine blX3_word_62 rfl i4.1.1 (by rw [el, char_16 hch1]; exact J12_append_C (d := 5) i4 (by rw [wd_len]; omega) hm hch1 (Nat.le_refl 5)) (by show 5 + 1 ≤ d; omega) ?_ ?_ (fun _ _ _ q => absurd q id)
      · rw [wd_len]
        rcases i5 with rfl | rfl
        · have := hr16 rfl
          split <;> omega
        · rw [if_pos (by omega)]; omega
      · rintro v G3 ⟨rfl, o', ho', hs', hf'⟩
        refine blX3_word_66 (blX3_word_67 ?_)
        rw [nI_1]
        have ho2 : o ≠ z.2.1 := fun u => by rw [u, k1] at i8; cases i8
        have hoT : o ≠ z.2.2.1 := fun u => by rw [u, h.2.2.1.1] at i8; cases i8
        have nR : ¬ (z.2.1 = q ∨ z.2.1 = o) := fun u => u.elim hqR (fun v => ho2 v.symm)
        have nT : ¬ (z.2.2.1 = q ∨ z.2.2.1 = o) := fun u => u.elim hqT (fun v => hoT v.symm)
        have kR2 : hp_kd G' z.2.1 ≠ 0 := by rw [j1]; decide
        have hF3 : cf (fun _ => False) G G3 := fun x hx => by
          have hxq : ¬ (x = q ∨ x = o) := fun u => u.elim (fun v => hx (by rw [v]; exact i7)) (fun v => hx (by rw [v]; exact i8))
          obtain ⟨e1, e2⟩ := i6 x hx
          obtain ⟨f1, f2⟩ := hf' x (i6.ne hx)
          obtain ⟨g1, g2, g3⟩ := e2 id
          obtain ⟨l1, l2, l3⟩ := f2 hxq
          exact ⟨⟨f1.1.trans e1.1, f1.2.1.trans e1.2.1, f1.2.2.trans e1.2.2⟩, fun _ => ⟨l1.trans g1, l2.trans g2, l3.trans g3⟩⟩
        rw [wd_len] at hs'
        refine kk G3 o' (if i - c < m then m else 2 * m + 2) _ ⟨i1.fr hf' nR nT, fun k => by rw [hf'.i kR2 nR]; exact i2 k, fun k => by rw [hf'.r kR2 nR]; exact i3 k, ?_, ?_, hF3, i7, ?_⟩ ?_ ?_
        · rw [Nat.min_eq_left (by omega), wd_snoc hci, hch2, nI_clamp (by omega)]
          exact hs'
        · rcases i5 with rfl | rfl
          · split
            · exact Or.inl rfl
            · exact Or.inr rfl
          · rw [if_pos (by omega)]; exact Or.inr rfl
        · rcases ho' with v | v
          · rw [v]; exact i8
          · exact i6.fresh v
        · intro hm'
          rw [wd_len]
          rcases i5 with rfl | rfl
          · have := hr16 rfl
            by_cases hlt2 : i - c < 16
            · rw [if_pos hlt2]; omega
            · rw [if_neg hlt2] at hm'; omega
          · rw [if_pos (by omega)] at hm'; omega
        · rw [wd_len]
          rcases i5 with rfl | rfl
          · have := hr16 rfl
            split <;> omega
          · rw [if_pos (by omega)]; omega
  have step : ∀ i G2 o m r, i ≤ rz_n z → lx_wend (rz_T z) (rz_n z) i = e → wo_I z G G2 c i q o m → 4 ≤ r →
      (i < rz_n z → lx_ch (rz_T z i) → wk_V z.1 mX3_word (d, 10, (fun v G' => v = none ∧ wo_P z G c e G'), (fun _ _ _ => False), hp_cs G, hp_ss G) 45 [(0, vR (some z.2.1)), (1, vR (some q)), (2, vI (nI i))] [] G2 r) →
      wk_V z.1 mX3_word (d, 10, (fun v G' => v = none ∧ wo_P z G c e G'), (fun _ _ _ => False), hp_cs G, hp_ss G) 13 [(0, vR (some z.2.1)), (1, vR (some q)), (2, vI (nI i))] [] G2 r := by
    intro i G2 o m r hin hei hI hr4 kk
    have i1 := hI.1
    have j1 := i1.1.1
    refine blX3_word_13 j1 (X3_look_C (d := 0) i1 (by omega)) (by show 0 + 1 ≤ d; omega) (Nat.zero_le _) ?_ (fun _ _ _ q => absurd q id)
    rintro v G' ⟨rfl, rfl⟩
    refine blX3_word_18 (X3_letter_C (d := 0)) (by show 0 + 1 ≤ d; omega) (Nat.zero_le _) ?_ (fun _ _ _ q => absurd q id)
    rintro v G3 ⟨rfl, rfl⟩
    refine blX3_word_21 (fun u => kk (lk_lt.1 (lx_b1 u)).1 (Or.inl (lk_lt.1 (lx_b1 u)).2)) (fun u1 => ?_)
    refine blX3_word_24 j1 (X3_look_C (d := 0) i1 (by omega)) (by show 0 + 1 ≤ d; omega) (Nat.zero_le _) ?_ (fun _ _ _ q => absurd q id)
    rintro v G' ⟨rfl, rfl⟩
    refine blX3_word_29 (X3_digit_C (d := 0)) (by show 0 + 1 ≤ d; omega) (Nat.zero_le _) ?_ (fun _ _ _ q => absurd q id)
    rintro v G3 ⟨rfl, rfl⟩
    refine blX3_word_32 (fun u => kk (lk_dg.1 (lx_b1 u)).1 (Or.inr (Or.inl (lk_dg.1 (lx_b1 u)).2))) (fun u2 => ?_)
    refine blX3_word_35 j1 (X3_look_C (d := 0) i1 (by omega)) (by show 0 + 1 ≤ d; omega) (Nat.zero_le _) ?_ (fun _ _ _ q => absurd q id)
    rintro v G' ⟨rfl, rfl⟩
    refine blX3_word_40 (fun u3 => ?_) (fun u3 => kk ((lk_eq (by decide)).1 u3).1 (Or.inr (Or.inr ((lk_eq (by decide)).1 u3).2)))
    have ee : i = e := by
      rw [← hei, lx_wend_0]
      rintro ⟨v1, v2 | v2 | v2⟩
      · exact lx_b0.1 u1 (lk_lt.2 ⟨v1, v2⟩)
      · exact lx_b0.1 u2 (lk_dg.2 ⟨v1, v2⟩)
      · exact u3 ((lk_eq (by decide)).2 ⟨v1, v2⟩)
    subst ee
    exact wk_less hr4 (out _ o m hI)
  have loop : ∀ f i G2 o m r, rz_n z ≤ i + f → c ≤ i → i ≤ rz_n z → lx_wend (rz_T z) (rz_n z) i = e → wo_I z G G2 c i q o m → (m = 16 → 7 ≤ r) → 4 ≤ r → wk_V z.1 mX3_word (d, 10, (fun v G' => v = none ∧ wo_P z G c e G'), (fun _ _ _ => False), hp_cs G, hp_ss G) 13 [(0, vR (some z.2.1)), (1, vR (some q)), (2, vI (nI i))] [] G2 r := by
    intro f
    induction f with
    | zero =>
      intro i G2 o m r hf hci hin hei hI hr16 hr4
      exact step i G2 o m r hin hei hI hr4 (fun u _ => by omega)
    | succ f ih =>
      intro i G2 o m r hf hci hin hei hI hr16 hr4
      refine step i G2 o m r hin hei hI hr4 (fun u1 u2 => ?_)
      refine nx i G2 o m r hin hci u1 u2 hI hr16 hr4 (fun G3 o' m' r' hI' h1 h2 => ?_)
      exact ih (i + 1) G3 o' m' r' (by omega) (by omega) (by omega) (by rw [← hei, lx_wend_1 ⟨u1, u2⟩]) hI' h1 h2
  exact loop (rz_n z) c G1 o 16 _ (by omega) (Nat.le_refl c) hc he hI0 (fun _ => by decide) (by decide)
end
