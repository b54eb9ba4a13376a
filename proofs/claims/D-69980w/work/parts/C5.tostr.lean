/-! StringBuilder: toString -/
set_option maxRecDepth 100000
section
variable {w : WD} {d : Nat} {G : GH}
theorem J11_length_C {a : Nat} (hk : hp_kd G a = 27) : wk_C w mJ11_length d 0 [vR (some a)] G (fun v G' => v = some (vI (hp_i G a 3)) ∧ G' = G) (fun _ _ _ => False) := by
  refine wk_C_of (by decide) rfl (Nat.le_of_ble_eq_true rfl) ?_
  refine wk_aload_n 0 dJ11_length_0 rfl rfl ?_
  refine wk_getI 27 3 flJ11_79 rfl hk dJ11_length_1 ?_
  exact wk_ireturn rfl rfl dJ11_length_4 ⟨rfl, rfl⟩
theorem J12_length_C {a : Nat} (hk : hp_kd G a = 27) (hd : 1 ≤ d) : wk_C w mJ12_length d 0 [vR (some a)] G (fun v G' => v = some (vI (hp_i G a 3)) ∧ G' = G) (fun _ _ _ => False) := by
  refine wk_C_of (by decide) rfl (Nat.le_of_ble_eq_true rfl) ?_
  refine blJ12_length_0 hk (J11_length_C (d := 0) hk) hd (Nat.zero_le _) ?_ (fun _ _ _ q => absurd q id)
  rintro v G' ⟨rfl, rfl⟩
  exact blJ12_length_4 ⟨rfl, rfl⟩
theorem J11_getValue_C {a : Nat} (hk : hp_kd G a = 27) : wk_C w mJ11_getValue d 0 [vR (some a)] G (fun v G' => v = some (vR (hp_r G a 0)) ∧ G' = G) (fun _ _ _ => False) := by
  refine wk_C_of (by decide) rfl (Nat.le_of_ble_eq_true rfl) ?_
  exact blJ11_getValue_0 hk ⟨rfl, rfl⟩
theorem J17_checkLength_C {a b : Int32} (h : a ≤ b) : wk_C w mJ17_checkLength d 0 [vI a, vI b] G (fun v G' => v = none ∧ G' = G) (fun _ _ _ => False) := by
  refine wk_C_of (by decide) rfl (Nat.le_of_ble_eq_true rfl) ?_
  exact blJ17_checkLength_0 (fun _ => blJ17_checkLength_37 ⟨rfl, rfl⟩) (fun q => absurd h q)
/-- what a copy of the first m bytes of o leaves -/
def cr_P (w : WD) (G : GH) (o m : Nat) (v : Option WV) (G' : GH) : Prop := ∃ q, v = some (vR (some q)) ∧ hp_kd G q = 0 ∧ hp_A w q ∧ hp_kd G' q = 30 ∧ hp_ln G' q = m ∧ (∀ i, i < m → hp_i G' q i = hp_i G o i) ∧ cf (fun _ => False) G G'
theorem J17_copyOfRangeByte_C {o c m : Nat} (hk : hp_kd G o = 30) (hl : hp_ln G o = c) (hcm : m < c) (hm : c < 2 ^ 20) (hf : ∀ i, i < m → fits .byte (.int (hp_i G o i)) = true) (hd : 1 ≤ d) : wk_C w mJ17_copyOfRangeByte d (1 + m / 12) [vR (some o), vI 0, vI (nI m)] G (cr_P w G o m) (fun _ _ _ => False) := by
  have ec : (nI m).toNatClampNeg = m := nI_clamp (by omega)
  have c0 : (0 : Int32).toNatClampNeg = 0 := rfl
  have e0 : nI m - 0 = nI m := Int32.sub_zero _
  refine wk_C_of (by decide) rfl (Nat.le_of_ble_eq_true rfl) ?_
  refine blJ17_copyOfRangeByte_0 (J17_checkLength_C (d := 0) (nI_pos' (by omega))) hd (Nat.zero_le _) ?_ (fun _ _ _ q => absurd q id)
  rintro v G' ⟨rfl, rfl⟩
  refine blJ17_copyOfRangeByte_5 (by rw [e0]; exact nI_pos (by omega)) (by rw [e0, ec]; omega) (by rw [e0, ec]; exact Nat.le_refl _) (fun q hq hA => ?_)
  rw [e0, ec]
  have hne : o ≠ q := fun u => by rw [u, hq] at hk; cases hk
  have k1 : hp_kd (hp_nw G' q 30 m) o = 30 := by rw [hp_kd_nw, if_neg hne]; exact hk
  have k2 : hp_kd (hp_nw G' q 30 m) q = 30 := by rw [hp_kd_nw, if_pos rfl]
  have l1 : hp_ln (hp_nw G' q 30 m) o = c := by rw [hp_ln_nw, if_neg hne]; exact hl
  have l2 : hp_ln (hp_nw G' q 30 m) q = m := by rw [hp_ln_nw, if_pos rfl]
  have r1 : hp_i (hp_nw G' q 30 m) o = hp_i G' o := (hp_nw_ne o hne).2.2.1
  refine blJ17_copyOfRangeByte_12 rfl (by rw [k1]; decide) hd ?_
  rw [l1, Int32.sub_zero, if_pos (nI_lt hcm (by omega))]
  refine blJ17_copyOfRangeByte_27_I rfl rfl hA (by decide) (by decide) (nI_pos (by omega)) (by rw [c0, ec, l1]; omega) (by rw [c0, ec, l2]; omega) hd (by rw [k2]; decide) (by rw [k1, k2]) (fun i hi => ?_) ?_
  · rw [ec] at hi
    rw [k2, r1, c0, Nat.zero_add]
    exact hf i hi
  · rw [r1, c0, ec]
    refine blJ17_copyOfRangeByte_30 ⟨q, rfl, hq, hA, k2, l2, fun i hi => ?_, (cf.rf.nw hq).setI (Or.inr hq)⟩
    rw [hp_i_setI, if_pos rfl, pk_cpy_in (Nat.zero_le _) (by omega), Nat.sub_zero, Nat.zero_add]
theorem J17_copyOfRange_C {o c m : Nat} (hk : hp_kd G o = 30) (hl : hp_ln G o = c) (hcm : m ≤ c) (hm : c < 2 ^ 20) (hf : ∀ i, i < m → fits .byte (.int (hp_i G o i)) = true) (hd : 2 ≤ d) : wk_C w mJ17_copyOfRange d (1 + m / 12) [vR (some o), vI 0, vI (nI m)] G (cr_P w G o m) (fun _ _ _ => False) := by
  refine wk_C_of (by decide) rfl (Nat.le_of_ble_eq_true rfl) ?_
  refine blJ17_copyOfRange_0 (fun q => absurd rfl q) (fun _ => ?_)
  refine blJ17_copyOfRange_4 rfl (by rw [hk]; decide) (fun q => ?_) (fun q => ?_)
  · rw [hl] at q
    have e : m = c := (nI_eq (by omega) (by omega)).1 q
    refine blJ17_copyOfRange_17 rfl (by show 1 ≤ d; omega) hk (by rw [hl, ← e]; exact hf) (by rw [hl, ← e]; exact Nat.le_refl _) (fun q hq hA => ?_)
    rw [hl, ← e]
    have k2 : hp_kd (hp_nw G q 30 m) q = 30 := by rw [hp_kd_nw, if_pos rfl]
    refine blJ17_copyOfRange_21 rfl k2 ⟨q, rfl, hq, hA, k2, ?_, fun i _ => ?_, (cf.rf.nw hq).setI (Or.inr hq)⟩
    · show hp_ln (hp_nw G q 30 m) q = m
      rw [hp_ln_nw, if_pos rfl]
    · rw [hp_i_setI, if_pos rfl]
  · rw [hl] at q
    have e : m < c := by
      rcases Nat.lt_or_ge m c with u | u
      · exact u
      · exact absurd (by rw [show m = c by omega]) q
    refine blJ17_copyOfRange_10 (J17_copyOfRangeByte_C (d := 1) hk hl e hm hf (Nat.le_refl 1)) hd (Nat.le_refl _) ?_ (fun _ _ _ q => absurd q id)
    rintro v G' ⟨q, rfl, h⟩
    exact blJ17_copyOfRange_16 ⟨q, rfl, h⟩
/-- a String out of a builder -/
theorem J13_init_2_C {q a o c : Nat} {l : List Nat} (hk : hp_kd G q = 26) (hA : hp_A w q) (z2 : hp_i G q 2 = 0) (z3 : hp_i G q 3 = 0) (h : sb w G a o c l) (hl : l.length < 2 ^ 16) (hd : 3 ≤ d) : wk_C w mJ13_init_2 d (1 + l.length / 12) [vR (some q), vR (some a), vR none] G (fun v G' => v = none ∧ st w G' q l ∧ cf (fun x => x = q) G G') (fun _ _ _ => False) := by
  obtain ⟨⟨k1, kA, k2, k3⟩, k4, ⟨k5, k6, k7⟩, ⟨k8, k9⟩, k10⟩ := id h
  have hqo : o ≠ q := fun u => by rw [u, hk] at k5; cases k5
  refine wk_C_of (by decide) rfl (Nat.le_of_ble_eq_true rfl) ?_
  refine wk_sub [(0, vR (some q)), (1, vR (some a))] ⟨rfl, rfl, trivial⟩ ?_
  refine blJ13_init_2_0 (Nat.le_trans (by decide) hd) ?_
  refine blJ13_init_2_4 rfl k1 (J11_getValue_C (d := 0) k1) (by show 0 + 1 ≤ d; omega) (Nat.zero_le _) ?_ (fun _ _ _ q => absurd q id)
  rintro v G' ⟨rfl, rfl⟩
  refine blJ13_init_2_8 rfl k1 (J12_length_C (d := 1) k1 (Nat.le_refl 1)) (by show 1 + 1 ≤ d; omega) (Nat.zero_le _) ?_ (fun _ _ _ q => absurd q id)
  rintro v G1 ⟨rfl, rfl⟩
  refine blJ13_init_2_13 rfl k1 (J11_isLatin1_C (d := 0) k1 k2) (by show 0 + 1 ≤ d; omega) (Nat.zero_le _) ?_ (fun _ _ _ q => absurd q id)
  rintro v G2 ⟨rfl, rfl⟩
  refine blJ13_init_2_19 (fun q => absurd q (by decide)) (fun _ => ?_)
  have o2 : hp_i (hp_sI G2 q 1 0) o = hp_i G2 o := (hp_sI_ne o hqo).2.2.1
  refine blJ13_init_2_22 hk hA (by
    rw [k4, k3]
    exact J17_copyOfRange_C (d := 2) (o := o) (c := c) (m := l.length) k5 k7 k8 k9 (fun i hi => by rw [o2, (k10 i hi).1]; exact fits_byte (k10 i hi).2) (Nat.le_refl 2)) hd (Nat.le_refl _) ?_ (fun _ _ _ q => absurd q id)
  rintro v G3 ⟨p, rfl, p1, p2, p3, p4, p5, hf⟩
  have hqp : p ≠ q := fun u => by
    rw [u] at p1
    have : hp_kd G2 q = 0 := p1
    rw [hk] at this; cases this
  have kq : hp_kd (hp_sI G2 q 1 0) q ≠ 0 := by show hp_kd G2 q ≠ 0; rw [hk]; decide
  have i3 : hp_i G3 q = hp_i (hp_sI G2 q 1 0) q := hf.i kq id
  have hF : cf (fun x => x = q) G2 (hp_sR G3 q 0 (some p)) := ((cf.rf.sI (own := fun x => x = q) (Or.inl rfl)).tr2 hf (fun _ _ u => absurd u id)).sR (Or.inl rfl)
  refine blJ13_init_2_35 rfl (hf.k (a := q) (c := 26) hk (by decide)) hA (blJ13_init_2_97 ⟨rfl, ⟨⟨?_, ?_, by omega, fun i hi => (k10 i hi).2, p, ?_, p3, p4, fun i hi => ?_⟩, hA, ?_, ?_⟩, hF⟩)
  · exact hf.k (a := q) (c := 26) hk (by decide)
  · show hp_i G3 q 1 = 0
    rw [i3, hp_i_sI, if_pos rfl, if_pos rfl]
  · rw [hp_r_sR, if_pos rfl, if_pos rfl]
  · show hp_i G3 p i = _
    rw [p5 i hi, o2]
    exact (k10 i hi).1
  · refine Or.inl ?_
    show hp_i G3 q 2 = 0
    rw [i3, hp_i_sI, if_pos rfl, if_neg (by decide)]; exact z2
  · refine Or.inl ?_
    show hp_i G3 q 3 = 0
    rw [i3, hp_i_sI, if_pos rfl, if_neg (by decide)]; exact z3
theorem J13_init_C {q a o c : Nat} {l : List Nat} (hk : hp_kd G q = 26) (hA : hp_A w q) (z2 : hp_i G q 2 = 0) (z3 : hp_i G q 3 = 0) (h : sb w G a o c l) (hl : l.length < 2 ^ 16) (hd : 4 ≤ d) : wk_C w mJ13_init d (1 + l.length / 12) [vR (some q), vR (some a)] G (fun v G' => v = none ∧ st w G' q l ∧ cf (fun x => x = q) G G') (fun _ _ _ => False) := by
  refine wk_C_of (by decide) rfl (Nat.le_of_ble_eq_true rfl) ?_
  refine blJ13_init_0 (J13_init_2_C (d := 3) hk hA z2 z3 h hl (Nat.le_refl 3)) hd (Nat.le_refl _) ?_ (fun _ _ _ q => absurd q id)
  rintro v G' ⟨rfl, h1⟩
  exact blJ13_init_6 ⟨rfl, h1⟩
theorem sb.fr {own : Nat → Prop} {G' : GH} {a o c : Nat} {l : List Nat} (h : sb w G a o c l) (hf : cf own G G') (h1 : ¬ own a) (h2 : ¬ own o) : sb w G' a o c l := by
  obtain ⟨⟨k1, kA, k2, k3⟩, k4, ⟨k5, k6, k7⟩, k8, k10⟩ := h
  have ka : hp_kd G a ≠ 0 := by rw [k1]; decide
  have ko : hp_kd G o ≠ 0 := by rw [k5]; decide
  exact ⟨⟨hf.k k1 (by decide), kA, by rw [hf.i ka h1]; exact k2, by rw [hf.i ka h1]; exact k3⟩, by rw [hf.r ka h1]; exact k4, ⟨hf.k k5 (by decide), k6, (hf.ln ko).trans k7⟩, k8, fun i hi => by rw [hf.i ko h2]; exact k10 i hi⟩
theorem J12_toString_C {a o c : Nat} {l : List Nat} (h : sb w G a o c l) (hl : l.length < 2 ^ 16) (hd : 5 ≤ d) : wk_C w mJ12_toString d (2 + l.length / 12) [vR (some a)] G (fun v G' => ∃ q, v = some (vR (some q)) ∧ hp_kd G q = 0 ∧ st w G' q l ∧ cf (fun _ => False) G G') (fun _ _ _ => False) := by
  refine wk_C_of (by decide) rfl (Nat.le_of_ble_eq_true rfl) ?_
  refine blJ12_toString_0 (by show 1 ≤ 2 + l.length / 12; omega) (fun q hq hA => ?_)
  have hf0 : cf (fun _ => False) G (hp_nw G q 26 0) := cf.rf.nw hq
  have kq : hp_kd (hp_nw G q 26 0) q = 26 := by rw [hp_kd_nw, if_pos rfl]
  have hz : ∀ k, hp_i (hp_nw G q 26 0) q k = 0 := fun k => by rw [hp_i_nw, if_pos rfl]
  refine blJ12_toString_3 rfl (J13_init_C (d := 4) kq hA (hz 2) (hz 3) (h.fr hf0 id id) hl (Nat.le_refl 4)) hd (by show 1 + l.length / 12 ≤ 2 + l.length / 12 - 1; omega) ?_ (fun _ _ _ q => absurd q id)
  rintro v G' ⟨rfl, h1, hf⟩
  refine blJ12_toString_8 ⟨q, rfl, hq, h1, ?_⟩
  intro x hx
  have hxq : x ≠ q := fun u => hx (by rw [u]; exact hq)
  obtain ⟨e1, e2⟩ := hf0 x hx
  obtain ⟨f1, f2⟩ := hf x (hf0.ne hx)
  obtain ⟨g1, g2, g3⟩ := e2 id
  obtain ⟨l1, l2, l3⟩ := f2 hxq
  exact ⟨⟨f1.1.trans e1.1, f1.2.1.trans e1.2.1, f1.2.2.trans e1.2.2⟩, fun _ => ⟨l1.trans g1, l2.trans g2, l3.trans g3⟩⟩
end
