/-! THE REFERENCE'S WRONG: its <init> -/
set_option maxRecDepth 100000
/-- outside q all stands -/
def hp_out (q : Nat) (G G9 : GH) : Prop := ∀ b, b ≠ q → hp_kd G9 b = hp_kd G b ∧ hp_ln G9 b = hp_ln G b ∧ hp_i G9 b = hp_i G b ∧ hp_r G9 b = hp_r G b ∧ hp_l G9 b = hp_l G b
theorem hp_out.refl {q : Nat} {G : GH} : hp_out q G G := fun _ _ => ⟨rfl, rfl, rfl, rfl, rfl⟩
theorem hp_out.trans {q : Nat} {G G1 G2 : GH} (h : hp_out q G G1) (h2 : hp_out q G1 G2) : hp_out q G G2 := fun b hb => by
  obtain ⟨e1, e2, e3, e4, e5⟩ := h b hb
  obtain ⟨f1, f2, f3, f4, f5⟩ := h2 b hb
  exact ⟨f1.trans e1, f2.trans e2, f3.trans e3, f4.trans e4, f5.trans e5⟩
theorem hp_out.sI {q k : Nat} {v : Int32} {G : GH} : hp_out q G (hp_sI G q k v) := hp_sI_ne
theorem hp_out.sR {q k : Nat} {v : Option Nat} {G : GH} : hp_out q G (hp_sR G q k v) := hp_sR_ne
theorem J0_init_3_C {w : WD} {q d : Nat} {G : GH} (hd : 1 ≤ d) (hk : hp_kd G q = 4) (hA : hp_A w q) : wk_C w mJ0_init_3 d 0 [vR (some q), vR none, vR none, vI 0, vI 0] G (fun v G' => v = none ∧ hp_kd G' q = 4 ∧ hp_out q G G') (fun _ _ _ => False) := by
  refine wk_C_of (by decide) rfl (Nat.le_of_ble_eq_true rfl) ?_
  have hk' : 3 ≤ hp_kd G q ∧ hp_kd G q ≤ 4 := by omega
  refine blJ0_init_3_0 hd ?_
  refine blJ0_init_3_4 hk' hA ?_
  refine blJ0_init_3_16 hk' hA (fun _ => ?_) (fun h => absurd rfl h)
  refine blJ0_init_3_36 hk' hA ?_
  refine blJ0_init_3_41 hk' hA ?_
  refine blJ0_init_3_51 (fun h => absurd rfl h) (fun _ => ?_)
  refine blJ0_init_3_55 hk' hA ?_
  refine blJ0_init_3_60 ⟨rfl, hk, ?_⟩
  exact hp_out.trans (hp_out.trans (hp_out.trans (hp_out.trans (hp_out.trans (hp_out.trans hp_out.sR hp_out.sR) hp_out.sR) hp_out.sR) hp_out.sR) hp_out.sR) hp_out.sR
theorem J1_init_3_C {w : WD} {q d : Nat} {G : GH} (hd : 2 ≤ d) (hk : hp_kd G q = 4) (hA : hp_A w q) : wk_C w mJ1_init_3 d 0 [vR (some q), vR none, vR none, vI 0, vI 0] G (fun v G' => v = none ∧ hp_kd G' q = 4 ∧ hp_out q G G') (fun _ _ _ => False) := by
  refine wk_C_of (by decide) rfl (Nat.le_of_ble_eq_true rfl) ?_
  refine blJ1_init_3_0 (J0_init_3_C (Nat.le_refl 1) hk hA) hd (Nat.le_refl 0) ?_ (fun _ _ _ h => absurd h id)
  rintro v G' ⟨rfl, h1, h2⟩
  exact blJ1_init_3_9 ⟨rfl, h1, h2⟩
theorem J2_init_3_C {w : WD} {q d : Nat} {G : GH} (hd : 3 ≤ d) (hk : hp_kd G q = 4) (hA : hp_A w q) : wk_C w mJ2_init_3 d 0 [vR (some q), vR none, vR none, vI 0, vI 0] G (fun v G' => v = none ∧ hp_kd G' q = 4 ∧ hp_out q G G') (fun _ _ _ => False) := by
  refine wk_C_of (by decide) rfl (Nat.le_of_ble_eq_true rfl) ?_
  refine blJ2_init_3_0 (J1_init_3_C (Nat.le_refl 2) hk hA) hd (Nat.le_refl 0) ?_ (fun _ _ _ h => absurd h id)
  rintro v G' ⟨rfl, h1, h2⟩
  exact blJ2_init_3_9 ⟨rfl, h1, h2⟩
theorem X23_init_C {w : WD} {q d : Nat} {k p : Int32} (hd : 4 ≤ d) : ∀ G, hp_kd G q = 4 → hp_A w q → wk_C w mX23_init d 0 [vR (some q), vI k, vI p] G (fun v G9 => v = none ∧ hp_kd G9 q = 4 ∧ hp_i G9 q 6 = k ∧ hp_i G9 q 7 = p ∧ ∀ b, b ≠ q → hp_kd G9 b = hp_kd G b ∧ hp_ln G9 b = hp_ln G b ∧ hp_i G9 b = hp_i G b ∧ hp_r G9 b = hp_r G b ∧ hp_l G9 b = hp_l G b) (fun _ _ _ => False) := by
  intro G hk hA
  refine wk_C_of (by decide) rfl (Nat.le_of_ble_eq_true rfl) ?_
  refine blX23_init_0 (J2_init_3_C (Nat.le_refl 3) hk hA) hd (Nat.le_refl 0) ?_ (fun _ _ _ h => absurd h id)
  rintro v G' ⟨rfl, h1, h2⟩
  refine blX23_init_8 h1 hA ?_
  refine blX23_init_18 ⟨rfl, h1, ?_, ?_, h2.trans (hp_out.trans hp_out.sI hp_out.sI)⟩
  · rw [hp_i_sI, if_pos rfl, if_neg (by decide), hp_i_sI, if_pos rfl, if_pos rfl]
  · rw [hp_i_sI, if_pos rfl, if_pos rfl]
