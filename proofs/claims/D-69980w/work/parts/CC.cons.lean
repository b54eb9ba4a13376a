/-! THE COMPONENT's EXPRESSIONS: constructors -/
set_option maxRecDepth 100000
section
variable {w : WD} {d x : Nat} {G : GH}
theorem X11_init_C (hk : 13 ≤ hp_kd G x ∧ hp_kd G x ≤ 21) (hA : hp_A w x) (hd : 1 ≤ d) : wk_C w mX11_init d 0 [vR (some x)] G (fun v G' => v = none ∧ G' = hp_sI G x 2 1) (fun _ _ _ => False) := by
  refine wk_C_of (by decide) rfl (Nat.le_of_ble_eq_true rfl) ?_
  exact blX11_init_0 hd (blX11_init_4 hk hA ⟨rfl, rfl⟩)
/-- a new one with parts: height 1, an empty list of its own -/
def to_N (w : WD) (G : GH) (x L : Nat) (bad : Option Nat) : Prop := hp_i G x 2 = 1 ∧ hp_r G x 3 = some L ∧ hp_r G x 4 = bad ∧ ow G L x ∧ al w G L 0 0 (fun _ => none)
/-- what Together's constructor leaves -/
def to_P (w : WD) (G : GH) (x : Nat) (bad : Option Nat) (G' : GH) : Prop := ∃ L, hp_kd G L = 0 ∧ L ≠ x ∧ to_N w G' x L bad ∧ cf (fun y => y = x) G G' ∧ (∀ k, k ≠ 2 → hp_i G' x k = hp_i G x k) ∧ ∀ k, k ≠ 3 → k ≠ 4 → hp_r G' x k = hp_r G x k
theorem X12_init_C {bad : Option Nat} (hk : 15 ≤ hp_kd G x ∧ hp_kd G x ≤ 21) (hA : hp_A w x) (hE : kE w G) (hd : 4 ≤ d) : wk_C w mX12_init d 1 [vR (some x), vR bad] G (fun v G' => v = none ∧ to_P w G x bad G') (fun _ _ _ => False) := by
  refine wk_C_of (by decide) rfl (by cases bad <;> exact Nat.le_of_ble_eq_true rfl) ?_
  refine blX12_init_0 (X11_init_C (d := 1) ⟨by omega, hk.2⟩ hA (Nat.le_refl 1)) (by show 1 + 1 ≤ d; omega) (Nat.zero_le _) ?_ (fun _ _ _ q => absurd q id)
  rintro v G1 ⟨rfl, rfl⟩
  refine blX12_init_4 (Nat.le_refl 1) (fun L hL hAL => ?_)
  have hL0 : hp_kd G L = 0 := hL
  have hLx : L ≠ x := fun u => by rw [u] at hL0; omega
  have hf1 : cf (fun y => y = x) G (hp_nw (hp_sI G x 2 1) L 22 0) := ((cf.rf (own := fun y => y = x)).sI (Or.inl rfl)).nw hL
  have kL : hp_kd (hp_nw (hp_sI G x 2 1) L 22 0) L = 22 := by rw [hp_kd_nw, if_pos rfl]
  refine blX12_init_8 rfl (J5_init_C (d := 3) kL hAL (Nat.le_refl 3)) hd (Nat.zero_le _) ?_ (fun _ _ _ q => absurd q id)
  rintro v G2 ⟨rfl, rfl⟩
  have hal := al_new (w := w) (e := fun _ => none) kL hAL (by rw [hp_i_nw, if_pos rfl]) (hE.fr hf1)
  have hf2 : cf (fun y => y = x) G (hp_sR (hp_sI (hp_nw (hp_sI G x 2 1) L 22 0) L 2 0) L 0 (al_E w)) := (hf1.sI (Or.inr hL0)).sR (Or.inr hL0)
  have ei : ∀ k, hp_i (hp_sR (hp_sI (hp_nw (hp_sI G x 2 1) L 22 0) L 2 0) L 0 (al_E w)) x k = hp_i (hp_sI G x 2 1) x k := fun k => by rw [hp_i_sR, hp_i_sI, if_neg (Ne.symm hLx), hp_i_nw, if_neg (Ne.symm hLx)]
  have er : ∀ k, hp_r (hp_sR (hp_sI (hp_nw (hp_sI G x 2 1) L 22 0) L 2 0) L 0 (al_E w)) x k = hp_r G x k := fun k => by rw [hp_r_sR, if_neg (Ne.symm hLx), hp_r_sI, hp_r_nw, if_neg (Ne.symm hLx)]; rfl
  have el : ∀ k, hp_l (hp_sR (hp_sI (hp_nw (hp_sI G x 2 1) L 22 0) L 2 0) L 0 (al_E w)) L k = 0 := fun k => by rw [hp_l_sR, hp_l_sI, hp_l_nw, if_pos rfl]
  generalize hp_sR (hp_sI (hp_nw (hp_sI G x 2 1) L 22 0) L 2 0) L 0 (al_E w) = G2 at hal hf2 ei er el ⊢
  have kx : hp_kd G2 x = hp_kd G x := hf2.kd (by omega)
  refine wk_gl L x 1 (by rw [hal.1.1]; decide) ?_
  have hal2 : al w (hp_sL G2 L x 1) L 0 0 (fun _ => none) := by
    obtain ⟨a1, a2, o, o1, o2, o3, o4, o5⟩ := hal
    exact ⟨a1, a2, o, o1, o2, o3, o4, o5.imp id (fun u => absurd u.1 (Nat.lt_irrefl 0))⟩
  have how : ow (hp_sL G2 L x 1) L x := ow.set el
  refine blX12_init_12 rfl (by show 15 ≤ hp_kd G2 x ∧ hp_kd G2 x ≤ 21; rw [kx]; exact hk) hA (by show 15 ≤ hp_kd G2 x ∧ hp_kd G2 x ≤ 21; rw [kx]; exact hk) hA (blX12_init_20 ⟨rfl, L, hL0, hLx, ⟨?_, ?_, ?_, how.cg rfl, ?_⟩, ?_, fun k k2 => ?_, fun k k3 k4 => ?_⟩)
  · show hp_i G2 x 2 = 1
    rw [ei 2, hp_i_sI, if_pos rfl, if_pos rfl]
  · rw [hp_r_sR, if_pos rfl, if_neg (by decide), hp_r_sR, if_pos rfl, if_pos rfl]
  · rw [hp_r_sR, if_pos rfl, if_pos rfl]
  · have hfx : cf (fun y => y = x) (hp_sL G2 L x 1) (hp_sR (hp_sR (hp_sL G2 L x 1) x 3 (some L)) x 4 bad) := ((cf.rf (own := fun y => y = x)).sR (Or.inl rfl)).sR (Or.inl rfl)
    refine hal2.fr hfx hLx (fun y _ hy e => ?_)
    have : hp_kd G2 y = 32 := hy
    rw [e, kx] at this
    omega
  · exact ((hf2.sL (Or.inr hL0)).sR (Or.inl rfl)).sR (Or.inl rfl)
  · show hp_i G2 x k = _
    rw [ei k, hp_i_sI, if_pos rfl, if_neg k2]
  · rw [hp_r_sR, if_pos rfl, if_neg k4, hp_r_sR, if_pos rfl, if_neg k3, hp_r_sL]
    exact er k
end
