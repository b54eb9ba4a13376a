/-! put, a new map, clear -/
set_option maxRecDepth 100000
section
variable {w : WD} {d : Nat} {G : GH} {a t k i : Nat}
theorem J7_putVal_C {s key v : Nat} {m : List Nat → Option Nat} {l : List Nat} (h : hm w G a s m) (hs : s ≤ 99) (hk : st w G key l) (hv : hp_kd G v ≠ 0 ∧ hp_kd G v < 28) (hcmp : cmp_o w) (hd : 27 ≤ d) : wk_C w mJ7_putVal d (70 + 3 * s) [vR (some a), vI (hx l), vR (some key), vR (some v), vI 0, vI 1] G (pv_P w G a s m l v) (fun _ _ _ => False) := by
  have ka := h.1.1
  have hres : ∀ r, 70 + 3 * s ≤ r → (∀ t, hp_r G a 2 = some t → hp_ln G t ≤ 128) → wk_V w mJ7_putVal (d, 70 + 3 * s, pv_P w G a s m l v, (fun _ _ _ => False), hp_cs G, hp_ss G) 19 [(0, vR (some a)), (1, vI (hx l)), (2, vR (some key)), (3, vR (some v)), (4, vI 0), (5, vI 1)] [] G r := by
    intro r hr hln
    refine blJ7_putVal_19 ka (J7_resize_C (d := 25) h.toT hln (by omega) hcmp (Nat.le_refl 25)) (by show 25 + 1 ≤ d; omega) (by omega) ?_ (fun _ _ _ q => absurd q id)
    rintro v' G1 ⟨rfl, r1, r2, r3, r4⟩
    obtain ⟨t, et⟩ : ∃ t, hp_r G1 a 2 = some t := by
      cases e : hp_r G1 a 2 with
      | none => exact absurd e r1
      | some t => exact ⟨t, rfl⟩
    have kt : hp_kd G1 t = 35 := by
      obtain ⟨k, E, u, -, kt, -⟩ := r2.bins et
      exact kt
    have st1 : st w G1 key l := st_cf r4 (fun x hx => by
      rcases hx with e | ⟨-, e⟩
      · rw [e, ka]; exact ⟨by decide, by decide⟩
      · rcases e with e | e | e <;> rw [e] <;> exact ⟨by decide, by decide⟩) hk
    refine blJ7_putVal_23 et (by rw [kt]; decide) ?_
    rw [et]
    exact pv_29 r2 et (r3.trans h.1.2.2.1) hs r4 ka st1 ⟨r4.ne hv.1, by rw [r4.kd hv.1]; exact hv.2⟩ hcmp hd (by omega)
  refine wk_C_of (by decide) rfl (Nat.le_of_ble_eq_true rfl) ?_
  refine blJ7_putVal_0 ka (fun q => hres _ (Nat.le_refl _) (fun t e => by rw [q] at e; cases e)) (fun t ht => ?_)
  rw [ht]
  obtain ⟨k, E, u, -, kt, -, -, lt, hk4, hk8, -⟩ := h.toT.bins ht
  have hp2 : 2 ^ k ≤ 2 ^ 8 := Nat.pow_le_pow_right (by decide) hk8
  have hp1 : 0 < 2 ^ k := Nat.two_pow_pos k
  refine blJ7_putVal_10 rfl (by rw [kt]; decide) (fun _ => ?_) (fun q => ?_)
  · exact pv_29 h.toT ht h.1.2.2.1 hs cf.rf ka hk hv hcmp hd (by omega)
  · rw [lt] at q
    have := congrArg Int32.toInt q
    rw [nI_toInt (by omega)] at this
    have e0 : (0 : Int32).toInt = 0 := by decide
    rw [e0] at this
    omega
theorem J7_put_C {s key v : Nat} {m : List Nat → Option Nat} {l : List Nat} (h : hm w G a s m) (hs : s ≤ 99) (hk : st w G key l) (hv : hp_kd G v ≠ 0 ∧ hp_kd G v < 28) (hcmp : cmp_o w) (hd : 28 ≤ d) : wk_C w mJ7_put d (70 + 3 * s) [vR (some a), vR (some key), vR (some v)] G (fun u G' => u = some (vR (m l)) ∧ hm w G' a (if m l = none then s + 1 else s) (mu m l v) ∧ cf (fun x => hm_o G a x ∨ x = key) G G' ∧ (∀ b l', hp_sc G b l' → hp_sc G' b l') ∧ ∀ b l', st w G b l' → st w G' b l') (fun _ _ _ => False) := by
  refine wk_C_of (by decide) rfl (Nat.le_of_ble_eq_true rfl) ?_
  refine blJ7_put_0 (J7_hash_C (d := 4) hk (Nat.le_refl 4)) (by show 4 + 1 ≤ d; omega) (Nat.zero_le _) ?_ (fun _ _ _ q => absurd q id)
  rintro v' G1 ⟨rfl, hk1, hf⟩
  have h1 := hm_key h hk hk1 hf
  refine blJ7_put_5 rfl h1.1.1 (J7_putVal_C (d := 27) h1 hs hk1 ⟨hf.ne hv.1, by rw [hf.kd hv.1]; exact hv.2⟩ hcmp (Nat.le_refl 27)) hd (Nat.le_refl _) ?_ (fun _ _ _ q => absurd q id)
  rintro v' G2 ⟨rfl, p1, p2⟩
  have hx2 := rx_of (z := (w, 0, 0, 0, fun _ => 0, 0)) p2 (fun x hx => by
    rcases hx with e | ⟨-, e⟩
    · rw [e, h1.1.1]; exact ⟨by decide, by decide⟩
    · rcases e with e | e | e <;> rw [e] <;> exact ⟨by decide, by decide⟩)
  refine blJ7_put_12 ⟨rfl, p1, hf.mono (fun x _ e => Or.inr e) |>.tr2 p2 (fun x hx e => ?_), fun b l' u => hx2.2.1 b l' (sc_keep hk1 hk.1 hf b l' u), fun b l' u => hx2.2.2 b l' (st_keep hk1 hk.1 hf b l' u)⟩
  rcases e with e | ⟨e1, e2⟩
  · exact Or.inl (Or.inl e)
  · by_cases no : x = key
    · exact Or.inr no
    · rw [hf.kd hx] at e2
      exact Or.inl (Or.inr ⟨e1.cg (hf.l hx no).symm, e2⟩)
theorem J7_init_C (ka : hp_kd G a = 23) (aA : hp_A w a) (h0 : (∀ j, hp_i G a j = 0) ∧ hp_r G a 2 = none) (hd : 3 ≤ d) : wk_C w mJ7_init d 0 [vR (some a)] G (fun u G' => u = none ∧ hm w G' a 0 (fun _ => none) ∧ G' = hp_sI G a 7 ((1061158912 : UInt32).toInt32)) (fun _ _ _ => False) := by
  refine wk_C_of (by decide) rfl (Nat.le_of_ble_eq_true rfl) ?_
  have hC : wk_C w mJ6_init 2 0 [vR (some a)] G (fun v G' => v = none ∧ G' = G) (fun _ _ _ => False) := by
    refine wk_C_of (by decide) rfl (Nat.le_of_ble_eq_true rfl) ?_
    exact blJ6_init_0 (by show 1 ≤ 2; decide) (blJ6_init_4 ⟨rfl, rfl⟩)
  refine blJ7_init_0 hC hd (Nat.zero_le _) ?_ (fun _ _ _ q => absurd q id)
  rintro v G' ⟨rfl, rfl⟩
  have i7 : ∀ j, j ≠ 7 → hp_i (hp_sI G' a 7 ((1061158912 : UInt32).toInt32)) a j = 0 := fun j hj => by
    rw [hp_i_sI, if_pos rfl, if_neg hj]; exact h0.1 j
  exact blJ7_init_4 ka aA (wk_return rfl dJ7_init_10 ⟨rfl, ⟨⟨ka, aA, i7 4 (by decide), by decide⟩, Or.inl ⟨h0.2, i7 6 (by decide), rfl, fun _ => rfl⟩⟩, rfl⟩)
/-- all bins empty -/
theorem hmt_nil {k : Nat} (ka : hp_kd G a = 23) (aA : hp_A w a) (kt : hp_kd G t = 35) (tA : hp_A w t) (ot : ow G t a) (lt : hp_ln G t = 2 ^ k) (e2 : hp_r G a 2 = some t) (hk4 : 4 ≤ k) (hk8 : k ≤ 8) (e6 : hp_i G a 6 = nI (3 * 2 ^ (k - 2))) (h : ∀ j, j < 2 ^ k → hp_r G t j = none) : hmt w G a 0 (fun _ => none) := by
  refine hmt_of (E := fun _ _ _ => False) (u := fun _ => 0) (fun j hj => by rw [h j hj]; exact bk.nil (fun _ _ q => q)) ka aA kt tA ot lt e2 hk4 hk8 e6 ?_ (fun l v => ⟨fun q => (by cases q), fun q => q.elim⟩)
  have : ∀ n, sg (fun _ => 0) n 0 = 0 := by
    intro n
    induction n with
    | zero => rfl
    | succ n ih => show sg (fun _ => 0) n 0 + 0 = 0; rw [ih]
  rw [this]
  exact Nat.le_refl 0
theorem J7_clear_C {s : Nat} {m : List Nat → Option Nat} (h : hm w G a s m) : wk_C w mJ7_clear d 0 [vR (some a)] G (fun u G' => u = none ∧ hm w G' a 0 (fun _ => none) ∧ cf (hm_o G a) G G') (fun _ _ _ => False) := by
  have ka := h.1.1
  have aA := h.1.2.1
  have hs := h.1.2.2.2
  refine wk_C_of (by decide) rfl (Nat.le_of_ble_eq_true rfl) ?_
  have i5 : ∀ j, j ≠ 5 → hp_i (hp_sI G a 5 (hp_i G a 5 + 1)) a j = hp_i G a j := fun j hj => by rw [hp_i_sI, if_pos rfl, if_neg hj]
  have f1 : cf (hm_o G a) G (hp_sI G a 5 (hp_i G a 5 + 1)) := cf.rf.sI (Or.inl (Or.inl rfl))
  have e4 : hp_i (hp_sI G a 5 (hp_i G a 5 + 1)) a 4 = nI s := (i5 4 (by decide)).trans h.1.2.2.1
  have e6 : hp_i (hp_sI G a 5 (hp_i G a 5 + 1)) a 6 = hp_i G a 6 := i5 6 (by decide)
  refine blJ7_clear_0 ka aA (fun q => ?_) (fun t ht => ?_)
  · rcases h.2 with ⟨u1, u2, u3, u4⟩ | ⟨t, k, Lf, Vf, B, b1, -⟩
    · exact blJ7_clear_49 ⟨rfl, ⟨⟨ka, aA, by rw [e4, u3], by decide⟩, Or.inl ⟨q, e6.trans u2, rfl, fun _ => rfl⟩⟩, f1⟩
    · rw [q] at b1; cases b1
  · rw [ht]
    obtain ⟨k, E, u, hb, kt, tA, ot, lt, hk4, hk8, e6', hsum, hmm, hEi⟩ := h.toT.bins ht
    have ta : t ≠ a := fun e => by rw [e, ka] at kt; cases kt
    have hp2 : 2 ^ k ≤ 2 ^ 8 := Nat.pow_le_pow_right (by decide) hk8
    generalize hG1 : hp_sI G a 5 (hp_i G a 5 + 1) = G1 at f1 e4 e6
    have ka1 : hp_kd G1 a = 23 := by rw [← hG1]; exact ka
    have rt1 : ∀ x, hp_r G1 x = hp_r G x := fun x => by rw [← hG1]; rfl
    refine blJ7_clear_19 ka1 (fun q => ?_) (fun q => ?_)
    · have s0 : s = 0 := by
        rw [e4, Int32.le_iff_toInt_le, nI_toInt (by omega)] at q
        have e0 : (0 : Int32).toInt = 0 := by decide
        rw [e0] at q
        omega
      subst s0
      refine blJ7_clear_49 ⟨rfl, hmt.toM (hmt_nil (t := t) (k := k) ka1 aA (by rw [f1.kd (by rw [kt]; decide)]; exact kt) tA (ot.cg (by rw [← hG1]; rfl)) (by rw [f1.ln (by rw [kt]; decide)]; exact lt) (by rw [rt1]; exact ht) hk4 hk8 (e6.trans e6') (fun j hj => ?_)) e4 (by decide) (fun _ => rfl), f1⟩
      rw [rt1]
      obtain ⟨C, L, V, c1, -, -, -, c5⟩ := hb j hj
      have := sg_one (g := u) (j := j) (2 ^ k) 0 (Nat.zero_le _) (by omega)
      have z : C.length = 0 := by omega
      have eC : C = [] := List.eq_nil_of_length_eq_zero z
      rw [eC] at c1
      exact c1
    · refine blJ7_clear_26 ka1 aA ?_
      have e42 : hp_i (hp_sI G1 a 4 0) a 4 = nI 0 := by rw [hp_i_sI, if_pos rfl, if_pos rfl]; rfl
      have e62 : hp_i (hp_sI G1 a 4 0) a 6 = hp_i G a 6 := by rw [hp_i_sI, if_pos rfl, if_neg (by decide)]; exact e6
      have f2 : cf (hm_o G a) G (hp_sI G1 a 4 0) := f1.sI (Or.inl (Or.inl rfl))
      have e22 : hp_r (hp_sI G1 a 4 0) a 2 = some t := by show hp_r G1 a 2 = _; rw [rt1]; exact ht
      have el2 : hp_l (hp_sI G1 a 4 0) t = hp_l G t := by show hp_l G1 t = _; rw [← hG1]; rfl
      generalize hp_sI G1 a 4 0 = G2 at e42 e62 f2 e22 el2
      have loop : ∀ n x G3, x + n = 2 ^ k → cf (hm_o G a) G G3 → hp_i G3 a 4 = nI 0 → hp_i G3 a 6 = hp_i G a 6 → hp_r G3 a 2 = some t → hp_l G3 t = hp_l G t → (∀ j, j < x → hp_r G3 t j = none) → wk_V w mJ7_clear (d, 0, (fun u G' => u = none ∧ hm w G' a 0 (fun _ => none) ∧ cf (hm_o G a) G G'), (fun _ _ _ => False), hp_cs G, hp_ss G) 33 [(1, vR (some t)), (2, vI (nI x))] [] G3 0 := by
        intro n
        induction n with
        | zero =>
          intro x G3 hx g1 g2 g3 g4 g5 g6
          have ka3 : hp_kd G3 a = 23 := by rw [g1.kd (by rw [ka]; decide)]; exact ka
          have kt3 : hp_kd G3 t = 35 := by rw [g1.kd (by rw [kt]; decide)]; exact kt
          have lt3 : hp_ln G3 t = 2 ^ k := by rw [g1.ln (by rw [kt]; decide)]; exact lt
          refine blJ7_clear_33 rfl (by rw [kt3]; decide) (fun _ => ?_) (fun q => ?_)
          · exact blJ7_clear_49 ⟨rfl, hmt.toM (hmt_nil (t := t) (k := k) ka3 aA kt3 tA (ot.cg g5) lt3 g4 hk4 hk8 (g3.trans e6') (fun j hj => g6 j (by omega))) g2 (by decide) (fun _ => rfl), g1⟩
          · rw [lt3] at q
            exact absurd (show nI (2 ^ k) ≤ nI x by rw [Int32.le_iff_toInt_le, nI_toInt (by omega), nI_toInt (by omega)]; omega) q
        | succ n ih =>
          intro x G3 hx g1 g2 g3 g4 g5 g6
          have kt3 : hp_kd G3 t = 35 := by rw [g1.kd (by rw [kt]; decide)]; exact kt
          have lt3 : hp_ln G3 t = 2 ^ k := by rw [g1.ln (by rw [kt]; decide)]; exact lt
          refine blJ7_clear_33 rfl (by rw [kt3]; decide) (fun q => ?_) (fun _ => ?_)
          · rw [lt3] at q
            exact absurd q (nI_ge (by omega) (by omega))
          · refine blJ7_clear_39 rfl (by rw [lt3]; exact vp_in_nI (by omega) (by omega)) tA (by rw [kt3]; decide) (by rw [kt3]; rfl) (fun b hb => by cases hb) ?_
            rw [nI_1, nI_clamp (by omega)]
            refine ih (x + 1) _ (by omega) (g1.sR (Or.inl (Or.inr ⟨ot, Or.inl kt⟩))) g2 g3 (by rw [hp_r_sR, if_neg ta.symm]; exact g4) g5 (fun j hj => ?_)
            rw [hp_r_sR, if_pos rfl]
            by_cases e : j = x
            · rw [if_pos e]
            · rw [if_neg e]; exact g6 j (by omega)
      exact loop (2 ^ k) 0 G2 (by omega) f2 e42 e62 e22 el2 (fun j hj => by omega)
end
