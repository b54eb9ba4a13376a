/-! THE COMPONENT's finish: types of Choice, First, Before, When, Current (tools/gen_ty.py) -/
set_option maxRecDepth 100000
theorem ls_1 {l : List Nat} (h : l.length = 1) : ∃ a, l = [a] := List.length_eq_one_iff.1 h
theorem ls_2 {l : List Nat} (h : l.length = 2) : ∃ a b, l = [a, b] := by
  match l, h with
  | [a, b], _ => exact ⟨a, b, rfl⟩
theorem ls_3 {l : List Nat} (h : l.length = 3) : ∃ a b c, l = [a, b, c] := by
  match l, h with
  | [a, b, c], _ => exact ⟨a, b, c, rfl⟩
section
variable {q : PZ} {S : MS} {X : Nat → Nat} {lo hi b outs n : Nat} {G G0 G' : GH} {A A0 : Nat → Int32}
theorem pw_len_4 {s o : Int32} {m : Nat} (h : s = 4) (y : pw_s S s o m) : m = 3 := by
  subst h
  rcases y with ⟨w, -⟩ | ⟨w, -⟩ | ⟨w, -⟩ | ⟨w, -⟩ | ⟨-, w⟩ | ⟨w, -⟩ | ⟨w, -⟩ | ⟨w, -⟩ <;> first | exact w | exact absurd w (by decide)
theorem pw_len_2 {s o : Int32} {m : Nat} (h : 5 ≤ s ∧ s ≤ 21) (y : pw_s S s o m) : m = 2 := by
  rcases y with ⟨w, -⟩ | ⟨w, -⟩ | ⟨w, -⟩ | ⟨w, -⟩ | ⟨w, -⟩ | ⟨-, -, w⟩ | ⟨w, -⟩ | ⟨w, -⟩
  · rw [w] at h; exact absurd h.1 (by decide)
  · rw [w] at h; exact absurd h.1 (by decide)
  · rw [w] at h; exact absurd h.1 (by decide)
  · rw [w] at h; exact absurd h.1 (by decide)
  · rw [w] at h; exact absurd h.1 (by decide)
  · exact w
  · exact absurd (Int32.le_trans w h.2) (by decide)
  · rw [w] at h; exact absurd h.2 (by decide)
theorem pw_len_1 {s o : Int32} {m : Nat} (h : 22 ≤ s ∧ s ≤ 26) (y : pw_s S s o m) : m = 1 := by
  rcases y with ⟨w, -⟩ | ⟨w, -⟩ | ⟨w, -⟩ | ⟨w, -⟩ | ⟨w, -⟩ | ⟨-, w, -⟩ | ⟨-, -, w⟩ | ⟨-, w, -⟩
  · rw [w] at h; exact absurd h.1 (by decide)
  · rw [w] at h; exact absurd h.1 (by decide)
  · rw [w] at h; exact absurd h.1 (by decide)
  · rw [w] at h; exact absurd h.1 (by decide)
  · rw [w] at h; exact absurd h.1 (by decide)
  · exact absurd (Int32.le_trans h.1 w) (by decide)
  · exact w
  · exact w
theorem pw_len_56 {s o : Int32} {m : Nat} (h : s = 5 ∨ s = 6) (y : pw_s S s o m) : m = 2 := pw_len_2 (by rcases h with u | u <;> rw [u] <;> decide) y
theorem pw_len_24 {s o : Int32} {m : Nat} (h : s = 24) (y : pw_s S s o m) : m = 1 := pw_len_1 (by rw [h]; decide) y
theorem pw_len_25 {s o : Int32} {m : Nat} (h : s = 25) (y : pw_s S s o m) : m = 1 := pw_len_1 (by rw [h]; decide) y
theorem pw_len_26 {s o : Int32} {m : Nat} (h : s = 26) (y : pw_s S s o m) : m = 1 := pw_len_1 (by rw [h]; decide) y
theorem tw.kd4 {e : Nat} (h : tw q lo hi S X G) (h1 : lo ≤ e) (h2 : e < hi) (hk : S.2 32 e = 4) : hp_kd G (X e) = 16 := by rw [(h.2.1 e h1 h2).1.1.1, hk]; rfl
theorem tw.kd56 {e : Nat} (h : tw q lo hi S X G) (h1 : lo ≤ e) (h2 : e < hi) (hk : S.2 32 e = 5 ∨ S.2 32 e = 6) : hp_kd G (X e) = 17 := by rw [(h.2.1 e h1 h2).1.1.1]; rcases hk with u | u <;> rw [u] <;> rfl
theorem tw.kd24 {e : Nat} (h : tw q lo hi S X G) (h1 : lo ≤ e) (h2 : e < hi) (hk : S.2 32 e = 24) : hp_kd G (X e) = 18 := by rw [(h.2.1 e h1 h2).1.1.1, hk]; rfl
theorem tw.kd25 {e : Nat} (h : tw q lo hi S X G) (h1 : lo ≤ e) (h2 : e < hi) (hk : S.2 32 e = 25) : hp_kd G (X e) = 20 := by rw [(h.2.1 e h1 h2).1.1.1, hk]; rfl
theorem tw.kd26 {e : Nat} (h : tw q lo hi S X G) (h1 : lo ≤ e) (h2 : e < hi) (hk : S.2 32 e = 26) : hp_kd G (X e) = 19 := by rw [(h.2.1 e h1 h2).1.1.1, hk]; rfl
theorem tw.kd3 {e : Nat} (h : tw q lo hi S X G) (h1 : lo ≤ e) (h2 : e < hi) (hk : S.2 32 e = 3) : hp_kd G (X e) = 21 := by rw [(h.2.1 e h1 h2).1.1.1, hk]; rfl
theorem lk_op (x : Int32) (h : 7 ≤ x ∧ x ≤ 23) : x = 7 ∨ x = 8 ∨ x = 9 ∨ x = 10 ∨ x = 11 ∨ x = 12 ∨ x = 13 ∨ x = 14 ∨ x = 15 ∨ x = 16 ∨ x = 17 ∨ x = 18 ∨ x = 19 ∨ x = 20 ∨ x = 21 ∨ x = 22 ∨ x = 23 := by
  obtain ⟨j, h1, h2, rfl⟩ := lk_nat (a := 7) (b := 23) (by decide) h (by decide)
  have : j = 7 ∨ j = 8 ∨ j = 9 ∨ j = 10 ∨ j = 11 ∨ j = 12 ∨ j = 13 ∨ j = 14 ∨ j = 15 ∨ j = 16 ∨ j = 17 ∨ j = 18 ∨ j = 19 ∨ j = 20 ∨ j = 21 ∨ j = 22 ∨ j = 23 := by omega
  rcases this with rfl | rfl | rfl | rfl | rfl | rfl | rfl | rfl | rfl | rfl | rfl | rfl | rfl | rfl | rfl | rfl | rfl <;> decide
theorem xk_op {s : Int32} (h : 7 ≤ s ∧ s ≤ 23) : xk s = 15 := by
  rcases lk_op s h with e | e | e | e | e | e | e | e | e | e | e | e | e | e | e | e | e <;> rw [e] <;> rfl
theorem tw.kdop {e : Nat} (h : tw q lo hi S X G) (h1 : lo ≤ e) (h2 : e < hi) (hk : 7 ≤ S.2 32 e ∧ S.2 32 e ≤ 23) : hp_kd G (X e) = 15 := by rw [(h.2.1 e h1 h2).1.1.1]; exact xk_op hk
theorem X14_typed_C {e d D : Nat} (hw0 : tw q lo hi S X G) (hpw : pw S lo hi) (hh : hi ≤ 5000) (h1 : lo ≤ e) (h2 : e < hi) (hk : S.2 32 e = 4) (hD : D + 1 ≤ d) (hd : 3 ≤ d) (ih : tyIH q S X lo hi b outs D (kls S e)) : wk_C q.1.1 mX14_typed d 0 [vR (some (X e))] G (tdP q S X b outs A0 e G) (tyX q S X b outs A0 e G) := by
  obtain ⟨hlo, y0⟩ := hpw e h1 h2
  obtain ⟨y1, y2, y3⟩ := y0.kl (by omega)
  have h3 : 3 ≤ S.2 32 e := by rw [hk]; decide
  obtain ⟨k0, k1, k2, e3⟩ := ls_3 (pw_len_4 hk y3)
  rw [e3] at y2
  obtain ⟨q01, q02, q03, q11, q12, q13, q21, q22, q23, q9⟩ := y2
  have q9 : k2 + 1 = e := q9
  have hS0 : tyS q S X b outs (lw (S.2 34) e) A0 G [] (lw (S.2 34) e) A0 G := tyS.z
  refine wk_C_of (by decide) rfl (Nat.le_of_ble_eq_true rfl) ?_
  obtain ⟨L0, c0, r30, r40, hal0⟩ := hw0.kids hpw hh h1 h2 h3
  rw [e3] at hal0
  refine blX14_typed_0 (hw0.kd4 h1 h2 hk) r30 hal0.1.1 (J5_get_C (d := 2) (i := 0) hal0 (by show 0 < 3; decide) (Nat.le_refl 2)) (by show 2 + 1 ≤ d; omega) (Nat.zero_le _) ?_ (fun _ _ _ u => absurd u id)
  rintro v G ⟨rfl, rfl⟩
  have kk0 := hw0.k (e := k0) (by omega) (by omega)
  refine vkX14_typed_8 (hcE kk0) rfl kk0 (ih k0 (by rw [e3]; simp) A0 _ hw0) (by show D + 1 ≤ d; omega) (Nat.zero_le _) ?_ (fun E a G' u => wk_out0 rfl (by have := hS0.err q01 (by omega) (by omega) u; exact this))
  rintro v G1 hP0
  obtain ⟨A1, rfl, t1, hS1, hA1⟩ := hS0.step hw0 hpw hh hlo q01 (by omega) (by omega) hP0
  have hw1 := hw0.wt hS1.2.2.1 hlo (by omega)
  obtain ⟨L1, c1, r31, r41, hal1⟩ := hw1.kids hpw hh h1 h2 h3
  rw [e3] at hal1
  refine blX14_typed_14 (hw1.kd4 h1 h2 hk) r31 hal1.1.1 (J5_get_C (d := 2) (i := 1) hal1 (by show 1 < 3; decide) (Nat.le_refl 2)) (by show 2 + 1 ≤ d; omega) (Nat.zero_le _) ?_ (fun _ _ _ u => absurd u id)
  rintro v G1 ⟨rfl, rfl⟩
  have kk1 := hw1.k (e := k1) (by omega) (by omega)
  refine vkX14_typed_23 (hcE kk1) rfl kk1 (ih k1 (by rw [e3]; simp) A1 _ hw1) (by show D + 1 ≤ d; omega) (Nat.zero_le _) ?_ (fun E a G' u => wk_out0 rfl (by have := hS1.err q11 (by omega) (by omega) u; exact this))
  rintro v G2 hP1
  obtain ⟨A2, rfl, t2, hS2, hA2⟩ := hS1.step hw1 hpw hh hlo q11 (by omega) (by omega) hP1
  have hw2 := hw0.wt hS2.2.2.1 hlo (by omega)
  obtain ⟨L2, c2, r32, r42, hal2⟩ := hw2.kids hpw hh h1 h2 h3
  rw [e3] at hal2
  refine blX14_typed_29 (hw2.kd4 h1 h2 hk) r32 hal2.1.1 (J5_get_C (d := 2) (i := 2) hal2 (by show 2 < 3; decide) (Nat.le_refl 2)) (by show 2 + 1 ≤ d; omega) (Nat.zero_le _) ?_ (fun _ _ _ u => absurd u id)
  rintro v G2 ⟨rfl, rfl⟩
  have kk2 := hw2.k (e := k2) (by omega) (by omega)
  refine vkX14_typed_38 (hcE kk2) rfl kk2 (ih k2 (by rw [e3]; simp) A2 _ hw2) (by show D + 1 ≤ d; omega) (Nat.zero_le _) ?_ (fun E a G' u => wk_out0 rfl (by have := hS2.err q21 (by omega) (by omega) u; exact this))
  rintro v G3 hP2
  obtain ⟨A3, rfl, t3, hS3, hA3⟩ := hS2.step hw2 hpw hh hlo q21 (by omega) (by omega) hP2
  have hw3 := hw0.wt hS3.2.2.1 hlo (by omega)
  have m0 : A2 k0 = A1 k0 := hA2 k0 (by simp)
  have m0' : A3 k0 = A2 k0 := hA3 k0 (by simp)
  have m1 : A3 k1 = A2 k1 := hA3 k1 (by simp)
  rw [← m0, ← m0'] at t1 ⊢
  rw [← m1] at t2 ⊢
  rw [q9] at hS3
  have hj : jt S A3 e (kls S e) (if e = b then outs else 1) = jt_ok (decide (A3 k0 ≠ 0) && decide (A3 k1 = A3 k2)) (A3 k1) := by
    unfold jt
    rw [hk, e3]
    rfl
  obtain ⟨L3, c3, r33, r43, hal3⟩ := hw3.kids hpw hh h1 h2 h3
  have kB : hp_kd G3 q.1.2.2.2.1 = 3 := hw3.1.1.2.1.1
  have bad : (decide (A3 k0 ≠ 0) && decide (A3 k1 = A3 k2)) = false → wk_V q.1.1 mX14_typed (d, 0, tdP q S X b outs A0 e G, tyX q S X b outs A0 e G, hp_cs G, hp_ss G) 57 [(0, vR (some (X e)))] [] G3 0 := fun hb => by
    refine blX14_typed_57 (hw3.kd4 h1 h2 hk) (by rw [r43]; exact X1_wrong_C (d := 0) kB hw3.1.1.2.1.2) (by show 0 + 1 ≤ d; omega) (Nat.zero_le _) ?_ (fun _ _ _ u => absurd u id)
    rintro v G9 ⟨rfl, rfl⟩
    exact blX14_typed_65 rfl (by show hp_kd G3 _ ≠ 0; rw [kB]; decide) (by show hp_kd G3 _ < 28; rw [kB]; decide) (wk_out0 rfl (hS3.thr hw3 rfl (by rw [hj, hb]; rfl)))
  refine blX14_typed_44 (fun u => bad ?_) (fun u => ?_)
  · have : A3 k0 = 0 := t1.resolve_right (fun w => u (by rw [w]; rfl))
    rw [this]; rfl
  · have w1 : A3 k0 = 1 := (ty_01 hw3.1.2 t1 (Or.inr rfl)).1 u
    refine blX14_typed_52 (fun u2 => ?_) (fun u2 => bad ?_)
    · have w2 := (ty_01 hw3.1.2 t2 t3).1 u2
      refine blX14_typed_66 (hS3.end rfl (t := A3 k1) ?_ t2)
      rw [hj, ← w2, w1, decide_eq_true rfl]
      rfl
    · have w2 : ¬ A3 k1 = A3 k2 := fun w => u2 (by rw [w])
      rw [decide_eq_false w2, Bool.and_false]
theorem X21_typed_C {e d D : Nat} (hw0 : tw q lo hi S X G) (hpw : pw S lo hi) (hh : hi ≤ 5000) (h1 : lo ≤ e) (h2 : e < hi) (hk : S.2 32 e = 5 ∨ S.2 32 e = 6) (hD : D + 1 ≤ d) (hd : 3 ≤ d) (ih : tyIH q S X lo hi b outs D (kls S e)) : wk_C q.1.1 mX21_typed d 0 [vR (some (X e))] G (tdP q S X b outs A0 e G) (tyX q S X b outs A0 e G) := by
  obtain ⟨hlo, y0⟩ := hpw e h1 h2
  obtain ⟨y1, y2, y3⟩ := y0.kl (by omega)
  have h3 : 3 ≤ S.2 32 e := by rcases hk with u | u <;> rw [u] <;> decide
  obtain ⟨k0, k1, e3⟩ := ls_2 (pw_len_56 hk y3)
  rw [e3] at y2
  obtain ⟨q01, q02, q03, q11, q12, q13, q9⟩ := y2
  have q9 : k1 + 1 = e := q9
  have hS0 : tyS q S X b outs (lw (S.2 34) e) A0 G [] (lw (S.2 34) e) A0 G := tyS.z
  refine wk_C_of (by decide) rfl (Nat.le_of_ble_eq_true rfl) ?_
  obtain ⟨L0, c0, r30, r40, hal0⟩ := hw0.kids hpw hh h1 h2 h3
  rw [e3] at hal0
  refine blX21_typed_0 (hw0.kd56 h1 h2 hk) r30 hal0.1.1 (J5_get_C (d := 2) (i := 0) hal0 (by show 0 < 2; decide) (Nat.le_refl 2)) (by show 2 + 1 ≤ d; omega) (Nat.zero_le _) ?_ (fun _ _ _ u => absurd u id)
  rintro v G ⟨rfl, rfl⟩
  have kk0 := hw0.k (e := k0) (by omega) (by omega)
  refine vkX21_typed_8 (hcE kk0) rfl kk0 (ih k0 (by rw [e3]; simp) A0 _ hw0) (by show D + 1 ≤ d; omega) (Nat.zero_le _) ?_ (fun E a G' u => wk_out0 rfl (by have := hS0.err q01 (by omega) (by omega) u; exact this))
  rintro v G1 hP0
  obtain ⟨A1, rfl, t1, hS1, hA1⟩ := hS0.step hw0 hpw hh hlo q01 (by omega) (by omega) hP0
  have hw1 := hw0.wt hS1.2.2.1 hlo (by omega)
  obtain ⟨L1, c1, r31, r41, hal1⟩ := hw1.kids hpw hh h1 h2 h3
  rw [e3] at hal1
  refine blX21_typed_14 (hw1.kd56 h1 h2 hk) r31 hal1.1.1 (J5_get_C (d := 2) (i := 1) hal1 (by show 1 < 2; decide) (Nat.le_refl 2)) (by show 2 + 1 ≤ d; omega) (Nat.zero_le _) ?_ (fun _ _ _ u => absurd u id)
  rintro v G1 ⟨rfl, rfl⟩
  have kk1 := hw1.k (e := k1) (by omega) (by omega)
  refine vkX21_typed_23 (hcE kk1) rfl kk1 (ih k1 (by rw [e3]; simp) A1 _ hw1) (by show D + 1 ≤ d; omega) (Nat.zero_le _) ?_ (fun E a G' u => wk_out0 rfl (by have := hS1.err q11 (by omega) (by omega) u; exact this))
  rintro v G2 hP1
  obtain ⟨A2, rfl, t2, hS2, hA2⟩ := hS1.step hw1 hpw hh hlo q11 (by omega) (by omega) hP1
  have hw2 := hw0.wt hS2.2.2.1 hlo (by omega)
  have m0 : A2 k0 = A1 k0 := hA2 k0 (by simp)
  rw [← m0] at t1 ⊢
  rw [q9] at hS2
  have hj : jt S A2 e (kls S e) (if e = b then outs else 1) = jt_ok (decide (A2 k0 = A2 k1)) (A2 k0) := by
    unfold jt
    rw [e3]
    rcases hk with u | u <;> rw [u] <;> rfl
  obtain ⟨L2, c2, r32, r42, hal2⟩ := hw2.kids hpw hh h1 h2 h3
  have kB : hp_kd G2 q.1.2.2.2.1 = 3 := hw2.1.1.2.1.1
  refine blX21_typed_29 (fun u => ?_) (fun u => ?_)
  · have w := (ty_01 hw2.1.2 t2 t1).1 u
    exact blX21_typed_42 (hS2.end rfl (t := A2 k0) (by rw [hj, w, decide_eq_true rfl]; rfl) t1)
  · refine blX21_typed_33 (hw2.kd56 h1 h2 hk) (by rw [r42]; exact X1_wrong_C (d := 0) kB hw2.1.1.2.1.2) (by show 0 + 1 ≤ d; omega) (Nat.zero_le _) ?_ (fun _ _ _ u => absurd u id)
    rintro v G9 ⟨rfl, rfl⟩
    exact blX21_typed_41 rfl (by show hp_kd G2 _ ≠ 0; rw [kB]; decide) (by show hp_kd G2 _ < 28; rw [kB]; decide) (wk_out0 rfl (hS2.thr hw2 rfl (by rw [hj, decide_eq_false (fun w => u (by rw [w]))]; rfl)))
theorem X16_typed_C {e d D : Nat} (hw0 : tw q lo hi S X G) (hpw : pw S lo hi) (hh : hi ≤ 5000) (h1 : lo ≤ e) (h2 : e < hi) (hk : S.2 32 e = 24) (hD : D + 1 ≤ d) (hd : 3 ≤ d) (ih : tyIH q S X lo hi b outs D (kls S e)) : wk_C q.1.1 mX16_typed d 0 [vR (some (X e))] G (tdP q S X b outs A0 e G) (tyX q S X b outs A0 e G) := by
  obtain ⟨hlo, y0⟩ := hpw e h1 h2
  obtain ⟨y1, y2, y3⟩ := y0.kl (by omega)
  have h3 : 3 ≤ S.2 32 e := by rw [hk]; decide
  obtain ⟨k0, e3⟩ := ls_1 (pw_len_24 hk y3)
  rw [e3] at y2
  obtain ⟨q01, q02, q03, q9⟩ := y2
  have q9 : k0 + 1 = e := q9
  have hS0 : tyS q S X b outs (lw (S.2 34) e) A0 G [] (lw (S.2 34) e) A0 G := tyS.z
  refine wk_C_of (by decide) rfl (Nat.le_of_ble_eq_true rfl) ?_
  obtain ⟨L0, c0, r30, r40, hal0⟩ := hw0.kids hpw hh h1 h2 h3
  rw [e3] at hal0
  refine blX16_typed_0 (hw0.kd24 h1 h2 hk) r30 hal0.1.1 (J5_get_C (d := 2) (i := 0) hal0 (by show 0 < 1; decide) (Nat.le_refl 2)) (by show 2 + 1 ≤ d; omega) (Nat.zero_le _) ?_ (fun _ _ _ u => absurd u id)
  rintro v G ⟨rfl, rfl⟩
  have kk0 := hw0.k (e := k0) (by omega) (by omega)
  refine vkX16_typed_8 (hcE kk0) rfl kk0 (ih k0 (by rw [e3]; simp) A0 _ hw0) (by show D + 1 ≤ d; omega) (Nat.zero_le _) ?_ (fun E a G' u => wk_out0 rfl (by have := hS0.err q01 (by omega) (by omega) u; exact this))
  rintro v G1 hP0
  obtain ⟨A1, rfl, t1, hS1, hA1⟩ := hS0.step hw0 hpw hh hlo q01 (by omega) (by omega) hP0
  have hw1 := hw0.wt hS1.2.2.1 hlo (by omega)
  rw [q9] at hS1
  exact blX16_typed_14 (hS1.end rfl (t := A1 k0) (by unfold jt; rw [hk, e3]; rfl) t1)
theorem X20_typed_C {e d D : Nat} (hw0 : tw q lo hi S X G) (hpw : pw S lo hi) (hh : hi ≤ 5000) (h1 : lo ≤ e) (h2 : e < hi) (hk : S.2 32 e = 26) (hD : D + 1 ≤ d) (hd : 3 ≤ d) (ih : tyIH q S X lo hi b outs D (kls S e)) : wk_C q.1.1 mX20_typed d 0 [vR (some (X e))] G (tdP q S X b outs A0 e G) (tyX q S X b outs A0 e G) := by
  obtain ⟨hlo, y0⟩ := hpw e h1 h2
  obtain ⟨y1, y2, y3⟩ := y0.kl (by omega)
  have h3 : 3 ≤ S.2 32 e := by rw [hk]; decide
  obtain ⟨k0, e3⟩ := ls_1 (pw_len_26 hk y3)
  rw [e3] at y2
  obtain ⟨q01, q02, q03, q9⟩ := y2
  have q9 : k0 + 1 = e := q9
  have hS0 : tyS q S X b outs (lw (S.2 34) e) A0 G [] (lw (S.2 34) e) A0 G := tyS.z
  refine wk_C_of (by decide) rfl (Nat.le_of_ble_eq_true rfl) ?_
  obtain ⟨L0, c0, r30, r40, hal0⟩ := hw0.kids hpw hh h1 h2 h3
  rw [e3] at hal0
  refine blX20_typed_0 (hw0.kd26 h1 h2 hk) r30 hal0.1.1 (J5_get_C (d := 2) (i := 0) hal0 (by show 0 < 1; decide) (Nat.le_refl 2)) (by show 2 + 1 ≤ d; omega) (Nat.zero_le _) ?_ (fun _ _ _ u => absurd u id)
  rintro v G ⟨rfl, rfl⟩
  have kk0 := hw0.k (e := k0) (by omega) (by omega)
  refine vkX20_typed_8 (hcE kk0) rfl kk0 (ih k0 (by rw [e3]; simp) A0 _ hw0) (by show D + 1 ≤ d; omega) (Nat.zero_le _) ?_ (fun E a G' u => wk_out0 rfl (by have := hS0.err q01 (by omega) (by omega) u; exact this))
  rintro v G1 hP0
  obtain ⟨A1, rfl, t1, hS1, hA1⟩ := hS0.step hw0 hpw hh hlo q01 (by omega) (by omega) hP0
  have hw1 := hw0.wt hS1.2.2.1 hlo (by omega)
  rw [q9] at hS1
  exact blX20_typed_14 (hS1.end rfl (t := A1 k0) (by unfold jt; rw [hk, e3]; rfl) t1)
theorem X17_typed_C {e d D : Nat} (hw0 : tw q lo hi S X G) (hpw : pw S lo hi) (hh : hi ≤ 5000) (h1 : lo ≤ e) (h2 : e < hi) (hk : S.2 32 e = 25) (hD : D + 1 ≤ d) (hd : 3 ≤ d) (ih : tyIH q S X lo hi b outs D (kls S e)) : wk_C q.1.1 mX17_typed d 0 [vR (some (X e))] G (tdP q S X b outs A0 e G) (tyX q S X b outs A0 e G) := by
  obtain ⟨hlo, y0⟩ := hpw e h1 h2
  obtain ⟨y1, y2, y3⟩ := y0.kl (by omega)
  have h3 : 3 ≤ S.2 32 e := by rw [hk]; decide
  obtain ⟨k0, e3⟩ := ls_1 (pw_len_25 hk y3)
  rw [e3] at y2
  obtain ⟨q01, q02, q03, q9⟩ := y2
  have q9 : k0 + 1 = e := q9
  have hS0 : tyS q S X b outs (lw (S.2 34) e) A0 G [] (lw (S.2 34) e) A0 G := tyS.z
  refine wk_C_of (by decide) rfl (Nat.le_of_ble_eq_true rfl) ?_
  obtain ⟨L0, c0, r30, r40, hal0⟩ := hw0.kids hpw hh h1 h2 h3
  rw [e3] at hal0
  refine blX17_typed_0 (hw0.kd25 h1 h2 hk) r30 hal0.1.1 (J5_get_C (d := 2) (i := 0) hal0 (by show 0 < 1; decide) (Nat.le_refl 2)) (by show 2 + 1 ≤ d; omega) (Nat.zero_le _) ?_ (fun _ _ _ u => absurd u id)
  rintro v G ⟨rfl, rfl⟩
  have kk0 := hw0.k (e := k0) (by omega) (by omega)
  refine vkX17_typed_8 (hcE kk0) rfl kk0 (ih k0 (by rw [e3]; simp) A0 _ hw0) (by show D + 1 ≤ d; omega) (Nat.zero_le _) ?_ (fun E a G' u => wk_out0 rfl (by have := hS0.err q01 (by omega) (by omega) u; exact this))
  rintro v G1 hP0
  obtain ⟨A1, rfl, t1, hS1, hA1⟩ := hS0.step hw0 hpw hh hlo q01 (by omega) (by omega) hP0
  have hw1 := hw0.wt hS1.2.2.1 hlo (by omega)
  rw [q9] at hS1
  exact blX17_typed_14 (hS1.end rfl (t := A1 k0) (by unfold jt; rw [hk, e3]; rfl) t1)
end
