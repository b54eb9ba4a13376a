/-! ArrayList: add, clear -/
set_option maxRecDepth 100000
section
variable {w : WD} {d a n c : Nat} {e : Nat → Option Nat} {G : GH}
theorem J17_copyOf_3_C {o m : Nat} (hk : hp_kd G o = 32) (hl : hp_ln G o = c) (hcm : c ≤ m) (hm : m < 2 ^ 25) (hob : ∀ i, i < c → ob G (hp_r G o i)) (hd : 1 ≤ d) : wk_C w mJ17_copyOf_3 d (1 + m / 12) [vR (some o), vI (nI m), vR (some (hp_mi w "[Ljava/lang/Object;"))] G
    (fun v G' => ∃ q, v = some (vR (some q)) ∧ hp_kd G q = 0 ∧ hp_A w q ∧ G' = hp_setR (hp_nw G q 32 m) q (va_cpy (hp_r G o) (hp_r (hp_nw G q 32 m) q) 0 0 c)) (fun _ _ _ => False) := by
  have ec : (nI m).toNatClampNeg = m := nI_clamp (by omega)
  have cc : (nI c).toNatClampNeg = c := nI_clamp (by omega)
  have c0 : (0 : Int32).toNatClampNeg = 0 := rfl
  refine wk_C_of (by decide) rfl (Nat.le_of_ble_eq_true rfl) ?_
  refine blJ17_copyOf_3_0 (fun q => absurd rfl q) (fun _ => ?_)
  refine blJ17_copyOf_3_6 (nI_pos (by omega)) (by rw [ec]; omega) (by rw [ec]; exact Nat.le_refl _) (fun q hq hA => ?_)
  rw [ec]
  have hne : o ≠ q := fun u => by rw [u, hq] at hk; cases hk
  have k1 : hp_kd (hp_nw G q 32 m) o = 32 := by rw [hp_kd_nw, if_neg hne]; exact hk
  have k2 : hp_kd (hp_nw G q 32 m) q = 32 := by rw [hp_kd_nw, if_pos rfl]
  have l1 : hp_ln (hp_nw G q 32 m) o = c := by rw [hp_ln_nw, if_neg hne]; exact hl
  have l2 : hp_ln (hp_nw G q 32 m) q = m := by rw [hp_ln_nw, if_pos rfl]
  have r1 : hp_r (hp_nw G q 32 m) o = hp_r G o := (hp_nw_ne o hne).2.2.2.1
  refine blJ17_copyOf_3_10 (blJ17_copyOf_3_24 rfl (by rw [k1]; decide) hd ?_)
  rw [l1, if_neg (nI_nlt hcm (by omega))]
  refine blJ17_copyOf_3_35_R rfl rfl hA (by decide) (by decide) (nI_pos (by omega)) (by rw [c0, cc, l1]; omega) (by rw [c0, cc, l2]; omega) hd (by rw [k2]; decide) (by rw [k1]; decide) (by rw [k2]; rfl) (fun i hi y hy => ?_) ?_
  · rw [cc] at hi
    rw [r1, c0, Nat.zero_add] at hy
    obtain ⟨y1, y2⟩ := hob i hi y hy
    have yne : y ≠ q := fun u => y1 (by rw [u]; exact hq)
    rw [hp_kd_nw, if_neg yne]
    exact ⟨y1, y2, hp_subO _ y2⟩
  · rw [r1, c0, cc]
    exact blJ17_copyOf_3_38 ⟨q, rfl, hq, hA, rfl⟩
theorem J17_copyOf_2_C {o m : Nat} (hk : hp_kd G o = 32) (hl : hp_ln G o = c) (hcm : c ≤ m) (hm : m < 2 ^ 25) (hob : ∀ i, i < c → ob G (hp_r G o i)) (hd : 2 ≤ d) : wk_C w mJ17_copyOf_2 d (1 + m / 12) [vR (some o), vI (nI m)] G
    (fun v G' => ∃ q, v = some (vR (some q)) ∧ hp_kd G q = 0 ∧ hp_A w q ∧ G' = hp_setR (hp_nw G q 32 m) q (va_cpy (hp_r G o) (hp_r (hp_nw G q 32 m) q) 0 0 c)) (fun _ _ _ => False) := by
  refine wk_C_of (by decide) rfl (Nat.le_of_ble_eq_true rfl) ?_
  refine blJ17_copyOf_2_0_32 rfl (Nat.le_trans (by decide) hd) hk ?_
  refine blJ17_copyOf_2_6 (J17_copyOf_3_C (d := 1) hk hl hcm hm hob (Nat.le_refl 1)) hd (Nat.le_refl _) ?_ (fun _ _ _ q => absurd q id)
  rintro v G' ⟨q, rfl, q1, q2, q3⟩
  exact blJ17_copyOf_2_9 ⟨q, rfl, q1, q2, q3⟩
theorem al.arr {o : Nat} (h : al w G a n c e) (ho : hp_r G a 0 = some o) : hp_kd G o = 32 ∧ hp_ln G o = c ∧ (∀ i, i < n → hp_r G o i = e i ∧ ob G (e i)) ∧ ((c = 0 ∧ al_E w = some o) ∨ (0 < c ∧ hp_A w o ∧ ow G o a)) := by
  obtain ⟨-, -, o', o1, o2, o3, o4, o5⟩ := h
  have eo : o' = o := by rw [ho] at o1; exact (Option.some.inj o1).symm
  subst eo
  exact ⟨o2, o3, o4, o5⟩
/-- the same list in another array -/
theorem al.re {own : Nat → Prop} {G1 : GH} {q c' : Nat} (h : al w G a n c e) (hf : cf own G G1) (hi : hp_i G1 a 1 = nI n) (hr : hp_r G1 a 0 = some q) (hk : hp_kd G1 q = 32) (hl : hp_ln G1 q = c') (hA : hp_A w q) (hc : n ≤ c' ∧ c' < 2 ^ 24) (h0 : 0 < c') (ho : ow G1 q a) (he : ∀ i, i < n → hp_r G1 q i = e i) : al w G1 a n c' e := by
  obtain ⟨⟨k1, k2, -⟩, -, o, -, -, -, o4, -⟩ := h
  exact ⟨⟨hf.k k1 (by decide), k2, hi⟩, hc, q, hr, hk, hl, fun i hi => ⟨he i hi, (o4 i hi).2.fr hf⟩, Or.inr ⟨h0, hA, ho⟩⟩
/-- what a list's growth leaves -/
def al_g (w : WD) (G : GH) (a n c : Nat) (e : Nat → Option Nat) (v : Option WV) (G' : GH) : Prop := ∃ q, v = some (vR (some q)) ∧ hp_kd G q = 0 ∧ hp_r G' a 0 = some q ∧ al w G' a n (al_c n c) e ∧ cf (fun x => x = a) G G'
theorem J5_grow_2_C (h : al w G a n c e) (hE : kE w G) (hc : n = c) (hn : n < 2 ^ 20) (hd : 3 ≤ d) : wk_C w mJ5_grow_2 d (1 + al_c n c / 12) [vR (some a), vI (nI (n + 1))] G (al_g w G a n c e) (fun _ _ _ => False) := by
  obtain ⟨k1, k2, k3⟩ := h.1
  obtain ⟨hc1, hc2⟩ := h.2.1
  obtain ⟨-, -, o, o1, -⟩ := id h
  obtain ⟨o2, o3, o4, o5⟩ := h.arr o1
  subst hc
  refine wk_C_of (by decide) rfl (Nat.le_of_ble_eq_true rfl) ?_
  refine blJ5_grow_2_0 k1 o1 (by rw [o2]; decide) (fun q => ?_) (fun q => ?_)
  · rw [o3] at q
    have h0 : 0 < n := by
      rcases Nat.eq_zero_or_pos n with u | u
      · rw [u] at q; exact absurd q (by decide)
      · exact u
    have ec : al_c n n = n + max 1 (n / 2) := by
      unfold al_c
      rw [if_neg (Nat.lt_irrefl n), if_neg (by omega)]
    have hm : max 1 (n / 2) < 2 ^ 20 ∧ 1 ≤ max 1 (n / 2) := by omega
    have e1 : nI (n + 1) - nI n = nI 1 := by rw [pk_sub (by omega)]; congr 1; omega
    have e2 : nI n >>> ((1 : Int32) &&& 31) = nI (n / 2) := by
      rw [show ((1 : Int32) &&& 31) = 1 by decide]
      exact pk_shrN (by omega) 1 1 (by decide)
    rw [o3]
    refine blJ5_grow_2_20 (by rw [e1, e2]; exact J15_newLength_C (d := 1) (by omega) (by omega) (by omega) (Nat.le_refl 1)) (Nat.le_trans (by decide) hd) (Nat.zero_le _) ?_ (fun _ _ _ q => absurd q id)
    rintro v G' ⟨rfl, rfl⟩
    rw [← ec]
    refine blJ5_grow_2_30 k1 (by rw [o1]; exact J17_copyOf_2_C (d := 2) o2 o3 (by omega) (by omega) (fun i hi => by rw [(o4 i hi).1]; exact (o4 i hi).2) (Nat.le_refl 2)) hd (Nat.le_refl _) ?_ (fun _ _ _ q => absurd q id)
    rintro v G2 ⟨q, rfl, hq, hA, rfl⟩
    have hqa : q ≠ a := fun u => by rw [u, k1] at hq; cases hq
    have hqo : q ≠ o := fun u => by rw [u, o2] at hq; cases hq
    have kq : hp_kd (hp_setR (hp_nw G' q 32 (al_c n n)) q (va_cpy (hp_r G' o) (hp_r (hp_nw G' q 32 (al_c n n)) q) 0 0 n)) q = 32 := by
      show hp_kd (hp_nw G' q 32 (al_c n n)) q = 32
      rw [hp_kd_nw, if_pos rfl]
    refine wk_gl q a 1 (by rw [kq]; decide) ?_
    have hf : cf (fun x => x = a) G' (hp_sR (hp_sL (hp_setR (hp_nw G' q 32 (al_c n n)) q (va_cpy (hp_r G' o) (hp_r (hp_nw G' q 32 (al_c n n)) q) 0 0 n)) q a 1) a 0 (some q)) := (((cf.rf.nw hq).setR (Or.inr hq)).sL (Or.inr hq)).sR (Or.inl rfl)
    refine blJ5_grow_2_40 rfl (by show hp_kd (hp_nw G' q 32 (al_c n n)) a = 22; rw [hp_kd_nw, if_neg (Ne.symm hqa)]; exact k1) k2 ⟨q, rfl, hq, ?_, h.re hf ?_ ?_ kq ?_ hA (by omega) (by omega) ?_ (fun i hi => ?_), hf⟩
    · rw [hp_r_sR, if_pos rfl, if_pos rfl]
    · show hp_i (hp_nw G' q 32 (al_c n n)) a 1 = nI n
      rw [hp_i_nw, if_neg (Ne.symm hqa)]; exact k3
    · rw [hp_r_sR, if_pos rfl, if_pos rfl]
    · show hp_ln (hp_nw G' q 32 (al_c n n)) q = al_c n n
      rw [hp_ln_nw, if_pos rfl]
    · refine ow.cg (ow.set fun y => ?_) rfl
      show hp_l (hp_nw G' q 32 (al_c n n)) q y = 0
      rw [hp_l_nw, if_pos rfl]
    · rw [hp_r_sR, if_neg hqa, hp_r_sL, hp_r_setR, if_pos rfl, pk_cpy_in (Nat.zero_le _) (by omega)]
      rw [Nat.sub_zero, Nat.zero_add]
      exact (o4 i hi).1
  · have h0 : n = 0 := by
      rcases Nat.eq_zero_or_pos n with u | u
      · exact u
      · rw [o3] at q; exact absurd (show nI 0 < nI n from nI_lt u (by omega)) q
    subst h0
    rcases o5 with ⟨-, hE2⟩ | ⟨u, -⟩
    · refine blJ5_grow_2_10 k1 (fun _ => ?_) (fun u => absurd (by rw [o1]; exact hE2.symm) u)
      refine blJ5_grow_2_45 (Nat.le_trans (by decide) hd) ?_
      have e1 : (if (10 : Int32) < nI (0 + 1) then nI (0 + 1) else 10) = nI 10 := by decide
      rw [e1]
      have ec : (nI 10).toNatClampNeg = 10 := rfl
      refine blJ5_grow_2_52 (by decide) (by decide) (by rw [ec]; exact Nat.le_refl _) (fun q hq hA => ?_)
      rw [ec]
      have hqa : q ≠ a := fun u => by rw [u, k1] at hq; cases hq
      have kq : hp_kd (hp_nw G q 32 10) q = 32 := by rw [hp_kd_nw, if_pos rfl]
      refine wk_gl q a 1 (by rw [kq]; decide) ?_
      have hf : cf (fun x => x = a) G (hp_sR (hp_sL (hp_nw G q 32 10) q a 1) a 0 (some q)) := ((cf.rf.nw hq).sL (Or.inr hq)).sR (Or.inl rfl)
      refine blJ5_grow_2_55 rfl (by show hp_kd (hp_nw G q 32 10) a = 22; rw [hp_kd_nw, if_neg (Ne.symm hqa)]; exact k1) k2 ⟨q, rfl, hq, ?_, h.re hf ?_ ?_ kq ?_ hA (by decide) (by decide) ?_ (fun i hi => by omega), hf⟩
      · rw [hp_r_sR, if_pos rfl, if_pos rfl]
      · show hp_i (hp_nw G q 32 10) a 1 = nI 0
        rw [hp_i_nw, if_neg (Ne.symm hqa)]; exact k3
      · rw [hp_r_sR, if_pos rfl, if_pos rfl]
      · show hp_ln (hp_nw G q 32 10) q = 10
        rw [hp_ln_nw, if_pos rfl]
      · refine ow.cg (ow.set fun y => ?_) rfl
        rw [hp_l_nw, if_pos rfl]
    · omega
theorem J5_grow_C (h : al w G a n c e) (hE : kE w G) (hc : n = c) (hn : n < 2 ^ 20) (hd : 4 ≤ d) : wk_C w mJ5_grow d (1 + al_c n c / 12) [vR (some a)] G (al_g w G a n c e) (fun _ _ _ => False) := by
  refine wk_C_of (by decide) rfl (Nat.le_of_ble_eq_true rfl) ?_
  refine blJ5_grow_0 h.1.1 (by rw [h.1.2.2, nI_1]; exact J5_grow_2_C (d := 3) h hE hc hn (Nat.le_refl 3)) hd (Nat.le_refl _) ?_ (fun _ _ _ q => absurd q id)
  rintro v G' ⟨q, rfl, q1, q2⟩
  exact blJ5_grow_10 ⟨q, rfl, q1, q2⟩
/-- what an add leaves -/
def al_w (G : GH) (a n c x : Nat) : Prop := x = a ∨ (n < c ∧ hp_r G a 0 = some x ∧ ow G x a ∧ hp_kd G x = 32)
def al_p (w : WD) (G : GH) (a n c : Nat) (e : Nat → Option Nat) (x : Option Nat) (G' : GH) : Prop := al w G' a (n + 1) (al_c n c) (fun i => if i = n then x else e i) ∧ cf (al_w G a n c) G G' ∧ ∀ o, hp_r G' a 0 = some o → (n < c ∧ hp_r G a 0 = some o) ∨ hp_kd G o = 0
theorem J5_add_2_C {o : Nat} {x : Option Nat} (h : al w G a n c e) (hE : kE w G) (ho : hp_r G a 0 = some o) (hx : ob G x) (hn : n < 2 ^ 20) (hd : 5 ≤ d) : wk_C w mJ5_add_2 d (al_b n c) [vR (some a), vR x, vR (some o), vI (nI n)] G (fun v G' => v = none ∧ al_p w G a n c e x G') (fun _ _ _ => False) := by
  obtain ⟨k1, k2, k3⟩ := h.1
  obtain ⟨hc1, hc2⟩ := h.2.1
  obtain ⟨o2, o3, o4, o5⟩ := h.arr ho
  have hkO : hp_at 32 = .object "java/lang/Object" := rfl
  refine wk_C_of (by decide) rfl (by cases x <;> exact Nat.le_of_ble_eq_true rfl) ?_
  refine blJ5_add_2_0 rfl (by rw [o2]; decide) (fun q => ?_) (fun q => ?_)
  · have hlt : n < c := by
      rw [o3] at q
      rcases Nat.lt_or_ge n c with u | u
      · exact u
      · exact absurd (by rw [show n = c by omega]) q
    have ec : al_c n c = c := if_pos hlt
    rcases o5 with ⟨c0, -⟩ | ⟨c1, c2, c3⟩
    · omega
    · refine blJ5_add_2_11 rfl (by rw [o3]; exact vp_in_nI hlt (by omega)) c2 (by rw [o2]; decide) (by rw [o2]; exact hkO) (fun b hb => ⟨(hx b hb).1, (hx b hb).2, hp_subO _ (hx b hb).2⟩) k1 k2 ?_
      rw [nI_clamp (by omega)]
      refine blJ5_add_2_22 ⟨rfl, ?_, ?_, fun o' ho' => Or.inl ⟨hlt, ?_⟩⟩
      · rw [ec]; exact h.push hlt ho hx
      · exact (cf.rf.sR (Or.inl (Or.inr ⟨hlt, ho, c3, o2⟩))).sI (Or.inl (Or.inl rfl))
      · rw [hp_r_sI, hp_r_sR, if_neg (fun q => by rw [← q, k1] at o2; cases o2)] at ho'
        exact ho'
  · have hcn : n = c := by
      rw [o3] at q
      exact (nI_eq (by omega) (by omega)).1 q
    have ec : al_b n c = 1 + al_c n c / 12 := if_neg (by omega)
    have hcc : n < al_c n c := by
      unfold al_c
      rw [if_neg (by omega)]
      split <;> omega
    refine blJ5_add_2_6 k1 (J5_grow_C (d := 4) h hE hcn hn (Nat.le_refl 4)) hd (Nat.le_of_eq ec.symm) ?_ (fun _ _ _ q => absurd q id)
    rintro v G1 ⟨q, rfl, hq, hr1, h1, hf⟩
    refine blJ5_add_2_10 ?_
    obtain ⟨p2, p3, p4, p5⟩ := h1.arr hr1
    rcases p5 with ⟨c0, -⟩ | ⟨c1, c2, c3⟩
    · omega
    · have hx1 := hx.fr hf
      refine blJ5_add_2_11 rfl (by rw [p3]; exact vp_in_nI hcc (by have := h1.2.1; omega)) c2 (by rw [p2]; decide) (by rw [p2]; exact hkO) (fun b hb => ⟨(hx1 b hb).1, (hx1 b hb).2, hp_subO _ (hx1 b hb).2⟩) h1.1.1 k2 ?_
      rw [nI_clamp (by omega)]
      refine blJ5_add_2_22 ⟨rfl, h1.push hcc hr1 hx1, ?_, fun o' ho' => Or.inr ?_⟩
      · exact ((hf.mono (fun y _ u => Or.inl u)).sR (Or.inr hq)).sI (Or.inl (Or.inl rfl))
      · have k11 := h1.1.1
        rw [hp_r_sI, hp_r_sR, if_neg (fun e => by rw [← e, k11] at p2; cases p2), hr1] at ho'
        rw [← Option.some.inj ho']
        exact hq
theorem J5_add_C {x : Option Nat} (h : al w G a n c e) (hE : kE w G) (hx : ob G x) (hn : n < 2 ^ 20) (hd : 6 ≤ d) : wk_C w mJ5_add d (al_b n c) [vR (some a), vR x] G (fun v G' => v = some (vI 1) ∧ al_p w G a n c e x G') (fun _ _ _ => False) := by
  obtain ⟨k1, k2, k3⟩ := h.1
  obtain ⟨-, -, o, o1, -⟩ := id h
  have h1 : al w (hp_sI G a 2 (hp_i G a 2 + 1)) a n c e := h.sI (by decide)
  have e1 : hp_i (hp_sI G a 2 (hp_i G a 2 + 1)) a 1 = nI n := h1.1.2.2
  refine wk_C_of (by decide) rfl (by cases x <;> exact Nat.le_of_ble_eq_true rfl) ?_
  refine blJ5_add_0 k1 k2 (by rw [e1, o1]; exact J5_add_2_C (d := 5) h1 (hE.fr (cf.rf.sI (own := fun _ => True) (Or.inl trivial))) o1 (fun y hy => hx y hy) hn (Nat.le_refl 5)) hd (Nat.le_refl _) ?_ (fun _ _ _ q => absurd q id)
  rintro v G' ⟨rfl, h2, h3, h4⟩
  refine blJ5_add_23 ⟨rfl, h2, ?_, h4⟩
  exact (cf.rf.sI (own := al_w G a n c) (Or.inl (Or.inl rfl))).tr2 h3 (fun y _ u => u)
end
