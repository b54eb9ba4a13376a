/-! THE COMPONENT: constructors of Equation and Node -/
set_option maxRecDepth 100000
/-- a new list of x's, at its field k -/
def nl_G (w : WD) (G : GH) (x L k : Nat) : GH := hp_sR (hp_sL (hp_sR (hp_sI (hp_nw G L 22 0) L 2 0) L 0 (al_E w)) L x 1) x k (some L)
section
variable {w : WD} {d x L k : Nat} {G : GH}
theorem nl_step (hk : hp_kd G x ≠ 0 ∧ hp_kd G x ≠ 22 ∧ hp_kd G x ≠ 32) (hL : hp_kd G L = 0) (hA : hp_A w L) (hE : kE w G) : al w (nl_G w G x L k) L 0 0 (fun _ => none) ∧ ow (nl_G w G x L k) L x ∧ cf (fun y => y = x) G (nl_G w G x L k) ∧ hp_r (nl_G w G x L k) x k = some L ∧ (∀ j, j ≠ k → hp_r (nl_G w G x L k) x j = hp_r G x j) ∧ hp_i (nl_G w G x L k) x = hp_i G x := by
  have hLx : L ≠ x := fun u => by rw [u] at hL; exact hk.1 hL
  have f0 : cf (fun y => y = x) G (hp_nw G L 22 0) := cf.rf.nw hL
  have kL : hp_kd (hp_nw G L 22 0) L = 22 := by rw [hp_kd_nw, if_pos rfl]
  have hal := al_new (w := w) (e := fun _ => none) kL hA (by rw [hp_i_nw, if_pos rfl]) (hE.fr f0)
  have f2 : cf (fun y => y = x) G (hp_sR (hp_sI (hp_nw G L 22 0) L 2 0) L 0 (al_E w)) := (f0.sI (Or.inr hL)).sR (Or.inr hL)
  have ei : hp_i (hp_sR (hp_sI (hp_nw G L 22 0) L 2 0) L 0 (al_E w)) x = hp_i G x := by
    funext j
    rw [hp_i_sR, hp_i_sI, if_neg (Ne.symm hLx), hp_i_nw, if_neg (Ne.symm hLx)]
  have er : ∀ j, hp_r (hp_sR (hp_sI (hp_nw G L 22 0) L 2 0) L 0 (al_E w)) x j = hp_r G x j := fun j => by rw [hp_r_sR, if_neg (Ne.symm hLx), hp_r_sI, hp_r_nw, if_neg (Ne.symm hLx)]
  have el : ∀ j, hp_l (hp_sR (hp_sI (hp_nw G L 22 0) L 2 0) L 0 (al_E w)) L j = 0 := fun j => by rw [hp_l_sR, hp_l_sI, hp_l_nw, if_pos rfl]
  unfold nl_G
  generalize hp_sR (hp_sI (hp_nw G L 22 0) L 2 0) L 0 (al_E w) = G2 at hal f2 ei er el ⊢
  have hal2 : al w (hp_sL G2 L x 1) L 0 0 (fun _ => none) := by
    obtain ⟨a1, a2, o, o1, o2, o3, o4, o5⟩ := hal
    exact ⟨a1, a2, o, o1, o2, o3, o4, o5.imp id (fun u => absurd u.1 (Nat.lt_irrefl 0))⟩
  have how : ow (hp_sL G2 L x 1) L x := ow.set el
  have hfx : cf (fun y => y = x) (hp_sL G2 L x 1) (hp_sR (hp_sL G2 L x 1) x k (some L)) := cf.rf.sR (Or.inl rfl)
  refine ⟨hal2.fr hfx hLx (fun y _ hy e => ?_), how.cg rfl, (f2.sL (Or.inr hL)).sR (Or.inl rfl), by rw [hp_r_sR, if_pos rfl, if_pos rfl], fun j hj => ?_, ?_⟩
  · have h32 : hp_kd G2 y = 32 := hy
    rw [e, f2.kd hk.1] at h32
    exact hk.2.2 h32
  · rw [hp_r_sR, if_pos rfl, if_neg hj, hp_r_sL]
    exact er j
  · show hp_i G2 x = _
    exact ei
/-- a list of x's that x's other writes leave -/
theorem al.keep {own : Nat → Prop} {G' : GH} {n c : Nat} {e : Nat → Option Nat} (h : al w G L n c e ∧ ow G L x) (hf : cf own G G') (ho : ∀ y, own y → hp_kd G y ≠ 22 ∧ hp_kd G y ≠ 32) : al w G' L n c e ∧ ow G' L x :=
  ⟨h.1.fr hf (fun u => (ho _ u).1 h.1.1.1) (fun y _ hy u => (ho _ u).2 hy), h.2.cg (hf.lg (by rw [h.1.1.1]; decide))⟩
/-- a new Equation -/
theorem X10_init_C (hk : hp_kd G x = 7) (hA : hp_A w x) (hE : kE w G) (hd : 4 ≤ d) : wk_C w mX10_init d 1 [vR (some x)] G (fun v G' => v = none ∧ ∃ L, hp_kd G L = 0 ∧ (al w G' L 0 0 (fun _ => none) ∧ ow G' L x) ∧ cf (fun y => y = x) G G' ∧ hp_r G' x 0 = some L ∧ (∀ j, j ≠ 0 → hp_r G' x j = hp_r G x j) ∧ hp_i G' x = hp_i G x) (fun _ _ _ => False) := by
  refine wk_C_of (by decide) rfl (Nat.le_of_ble_eq_true rfl) ?_
  refine blX10_init_0 (by omega) (blX10_init_4 (Nat.le_refl 1) (fun L hL hAL => ?_))
  refine blX10_init_8 rfl (J5_init_C (d := 3) (by rw [hp_kd_nw, if_pos rfl]) hAL (Nat.le_refl 3)) hd (Nat.zero_le _) ?_ (fun _ _ _ q => absurd q id)
  rintro v G2 ⟨rfl, rfl⟩
  obtain ⟨a1, a2, a3, a4, a5, a6⟩ := nl_step (k := 0) (x := x) (by rw [hk]; decide) hL hAL hE
  have hLx : L ≠ x := fun u => by rw [u, hk] at hL; cases hL
  refine wk_gl L x 1 (by show hp_kd (hp_nw G L 22 0) L ≠ 31; rw [hp_kd_nw, if_pos rfl]; decide) ?_
  exact blX10_init_12 rfl (by show hp_kd (hp_nw G L 22 0) x = 7; rw [hp_kd_nw, if_neg (Ne.symm hLx)]; exact hk) hA ⟨rfl, L, hL, ⟨a1, a2⟩, a3, a4, a5, a6⟩
/-- what Node's constructor leaves -/
def nd_P (w : WD) (G : GH) (x : Nat) (G' : GH) : Prop := ∃ Lv hv Le Lc Lm Lr, (hp_r G' x 1 = some Lv ∧ hp_r G' x 2 = some hv ∧ hp_r G' x 3 = some Le ∧ hp_r G' x 4 = some Lc ∧ hp_r G' x 5 = some Lm ∧ hp_r G' x 6 = some Lr) ∧ [Lv, Le, Lc, Lm, Lr].Nodup ∧ (∀ L ∈ [Lv, Le, Lc, Lm, Lr], hp_kd G L = 0 ∧ al w G' L 0 0 (fun _ => none) ∧ ow G' L x) ∧ (hp_kd G hv = 0 ∧ hm w G' hv 0 (fun _ => none)) ∧ cf (fun y => y = x) G G' ∧ hp_r G' x 0 = hp_r G x 0 ∧ hp_i G' x = hp_i G x
theorem X7_init_C (hk : hp_kd G x = 8) (hA : hp_A w x) (hE : kE w G) (hd : 4 ≤ d) : wk_C w mX7_init d 6 [vR (some x)] G (fun v G' => v = none ∧ nd_P w G x G') (fun _ _ _ => False) := by
  have nx : ∀ G1, cf (fun y => y = x) G G1 → hp_kd G1 x = 8 := fun G1 h => h.k hk (by decide)
  have nk : ∀ G1, cf (fun y => y = x) G G1 → hp_kd G1 x ≠ 0 ∧ hp_kd G1 x ≠ 22 ∧ hp_kd G1 x ≠ 32 := fun G1 h => by rw [nx G1 h]; decide
  have ne : ∀ G1 L, cf (fun y => y = x) G G1 → hp_kd G1 L = 0 → L ≠ x := fun G1 L h hL u => by rw [u, nx G1 h] at hL; cases hL
  have own2 : ∀ G1, cf (fun y => y = x) G G1 → ∀ y, y = x → hp_kd G1 y ≠ 22 ∧ hp_kd G1 y ≠ 32 := fun G1 h y u => by rw [u, nx G1 h]; decide
  have k31 : ∀ G1 L, hp_kd (hp_sR (hp_sI (hp_nw G1 L 22 0) L 2 0) L 0 (al_E w)) L ≠ 31 := fun G1 L => by show hp_kd (hp_nw G1 L 22 0) L ≠ 31; rw [hp_kd_nw, if_pos rfl]; decide
  have kx : ∀ G1 L, L ≠ x → hp_kd (hp_sL (hp_sR (hp_sI (hp_nw G1 L 22 0) L 2 0) L 0 (al_E w)) L x 1) x = hp_kd G1 x := fun G1 L h => by show hp_kd (hp_nw G1 L 22 0) x = _; rw [hp_kd_nw, if_neg (Ne.symm h)]
  refine wk_C_of (by decide) rfl (Nat.le_of_ble_eq_true rfl) ?_
  refine blX7_init_0 (by omega) (blX7_init_4 (by decide) (fun Lv hLv hAv => ?_))
  refine blX7_init_8 rfl (J5_init_C (d := 3) (by rw [hp_kd_nw, if_pos rfl]) hAv (Nat.le_refl 3)) hd (Nat.zero_le _) ?_ (fun _ _ _ q => absurd q id)
  rintro v G2 ⟨rfl, rfl⟩
  obtain ⟨a1, a2, a3, a4, a5, a6⟩ := nl_step (k := 1) (x := x) (nk G cf.rf) hLv hAv hE
  refine wk_gl Lv x 1 (k31 G Lv) ?_
  refine blX7_init_12 rfl (by rw [kx G Lv (ne G Lv cf.rf hLv)]; exact hk) hA (by decide) (fun hv hhv hAh => ?_)
  change hp_kd (nl_G w G x Lv 1) hv = 0 at hhv
  change wk_V w mX7_init _ 19 _ _ (hp_nw (nl_G w G x Lv 1) hv 23 0) _
  generalize nl_G w G x Lv 1 = G1 at a1 a2 a3 a4 a5 a6 hhv ⊢
  -- the map
  have kh1 : hp_kd (hp_nw G1 hv 23 0) hv = 23 := by rw [hp_kd_nw, if_pos rfl]
  refine blX7_init_19 rfl (J7_init_C (d := 3) kh1 hAh ⟨fun j => by rw [hp_i_nw, if_pos rfl], by rw [hp_r_nw, if_pos rfl]⟩ (Nat.le_refl 3)) hd (Nat.zero_le _) ?_ (fun _ _ _ q => absurd q id)
  rintro v G2 ⟨rfl, hmp, hG2⟩
  have f2 : cf (fun _ => False) G1 G2 := by rw [hG2]; exact (cf.rf.nw hhv).sI (Or.inr hhv)
  have hhx : hv ≠ x := ne G1 hv a3 hhv
  have r2 : hp_r G2 x = hp_r G1 x := f2.r (nk G1 a3).1 (fun u => u)
  have i2 : hp_i G2 x = hp_i G1 x := f2.i (nk G1 a3).1 (fun u => u)
  have e2 : cf (fun y => y = x) G G2 := a3.tr2 f2 (fun _ _ u => u.elim)
  have l2 := al.keep ⟨a1, a2⟩ f2 (fun y u => u.elim)
  clear hG2
  have f3 : cf (fun y => y = x) G2 (hp_sR G2 x 2 (some hv)) := cf.rf.sR (Or.inl rfl)
  have e3 : cf (fun y => y = x) G (hp_sR G2 x 2 (some hv)) := e2.tr f3
  have l3 := al.keep l2 f3 (own2 G2 e2)
  have st3 : ∀ b m, st w G2 b m → st w (hp_sR G2 x 2 (some hv)) b m := fun b m u => st_cf f3 (fun y hy => by rw [hy, nx G2 e2]; exact ⟨by decide, by decide⟩) u
  have m3 : hm w (hp_sR G2 x 2 (some hv)) hv 0 (fun _ => none) := hmp.fr f3 st3 hhx (fun y _ hy u => by rw [u, nx G2 e2] at hy; omega)
  have r31 : hp_r (hp_sR G2 x 2 (some hv)) x 1 = some Lv := by rw [hp_r_sR, if_pos rfl, if_neg (by decide), r2]; exact a4
  have r32 : hp_r (hp_sR G2 x 2 (some hv)) x 2 = some hv := by rw [hp_r_sR, if_pos rfl, if_pos rfl]
  have r30 : hp_r (hp_sR G2 x 2 (some hv)) x 0 = hp_r G x 0 := by rw [hp_r_sR, if_pos rfl, if_neg (by decide), r2]; exact a5 0 (by decide)
  have i3 : hp_i (hp_sR G2 x 2 (some hv)) x = hp_i G x := i2.trans a6
  refine blX7_init_23 rfl (nx G2 e2) hA (by decide) (fun Le hLe hAe => ?_)
  change hp_kd (hp_sR G2 x 2 (some hv)) Le = 0 at hLe
  generalize hp_sR G2 x 2 (some hv) = G3 at e3 l3 m3 r31 r32 r30 i3 hLe ⊢
  -- the other lists
  have hE3 : kE w G3 := hE.fr e3
  refine blX7_init_30 rfl (J5_init_C (d := 3) (by rw [hp_kd_nw, if_pos rfl]) hAe (Nat.le_refl 3)) hd (Nat.zero_le _) ?_ (fun _ _ _ q => absurd q id)
  rintro v G4 ⟨rfl, rfl⟩
  obtain ⟨b1, b2, b3, b4, b5, b6⟩ := nl_step (k := 3) (x := x) (nk G3 e3) hLe hAe hE3
  refine wk_gl Le x 1 (k31 G3 Le) ?_
  refine blX7_init_34 rfl (by rw [kx G3 Le (ne G3 Le e3 hLe)]; exact nx G3 e3) hA (by decide) (fun Lc hLc hAc => ?_)
  change hp_kd (nl_G w G3 x Le 3) Lc = 0 at hLc
  change wk_V w mX7_init _ 41 _ _ (hp_nw (nl_G w G3 x Le 3) Lc 22 0) _
  have l4 := al.keep l3 b3 (own2 G3 e3)
  have st4 : ∀ b m, st w G3 b m → st w (nl_G w G3 x Le 3) b m := fun b m u => st_cf b3 (fun y hy => by rw [hy, nx G3 e3]; exact ⟨by decide, by decide⟩) u
  have m4 := m3.fr b3 st4 hhx (fun y _ hy u => by rw [u, nx G3 e3] at hy; omega)
  have e4 : cf (fun y => y = x) G (nl_G w G3 x Le 3) := e3.tr b3
  have n4 : Le ≠ Lv := fun u => (by have := l3.1.1.1; rw [← u, hLe] at this; cases this)
  have r41 := (b5 1 (by decide)).trans r31
  have r42 := (b5 2 (by decide)).trans r32
  have r40 := (b5 0 (by decide)).trans r30
  have i4 := b6.trans i3
  have gLe := e3.fresh hLe
  generalize nl_G w G3 x Le 3 = G4 at b1 b2 b4 hLc l4 m4 e4 r41 r42 r40 i4 ⊢
  have hE4 : kE w G4 := hE.fr e4
  refine blX7_init_41 rfl (J5_init_C (d := 3) (by rw [hp_kd_nw, if_pos rfl]) hAc (Nat.le_refl 3)) hd (Nat.zero_le _) ?_ (fun _ _ _ q => absurd q id)
  rintro v G5 ⟨rfl, rfl⟩
  obtain ⟨c1, c2, c3, c4, c5, c6⟩ := nl_step (k := 4) (x := x) (nk G4 e4) hLc hAc hE4
  refine wk_gl Lc x 1 (k31 G4 Lc) ?_
  refine blX7_init_45 rfl (by rw [kx G4 Lc (ne G4 Lc e4 hLc)]; exact nx G4 e4) hA (by decide) (fun Lm hLm hAm => ?_)
  change hp_kd (nl_G w G4 x Lc 4) Lm = 0 at hLm
  change wk_V w mX7_init _ 52 _ _ (hp_nw (nl_G w G4 x Lc 4) Lm 22 0) _
  have l5 := al.keep l4 c3 (own2 G4 e4)
  have le5 := al.keep ⟨b1, b2⟩ c3 (own2 G4 e4)
  have st5 : ∀ b m, st w G4 b m → st w (nl_G w G4 x Lc 4) b m := fun b m u => st_cf c3 (fun y hy => by rw [hy, nx G4 e4]; exact ⟨by decide, by decide⟩) u
  have m5 := m4.fr c3 st5 hhx (fun y _ hy u => by rw [u, nx G4 e4] at hy; omega)
  have e5 : cf (fun y => y = x) G (nl_G w G4 x Lc 4) := e4.tr c3
  have n5 : Lc ≠ Lv ∧ Lc ≠ Le := ⟨fun u => (by have := l4.1.1.1; rw [← u, hLc] at this; cases this), fun u => (by have := b1.1.1; rw [← u, hLc] at this; cases this)⟩
  have r51 := (c5 1 (by decide)).trans r41
  have r52 := (c5 2 (by decide)).trans r42
  have r53 := (c5 3 (by decide)).trans b4
  have r50 := (c5 0 (by decide)).trans r40
  have i5 := c6.trans i4
  have gLc := e4.fresh hLc
  generalize nl_G w G4 x Lc 4 = G5 at c1 c2 c4 hLm l5 le5 m5 e5 r51 r52 r53 r50 i5 ⊢
  have hE5 : kE w G5 := hE.fr e5
  refine blX7_init_52 rfl (J5_init_C (d := 3) (by rw [hp_kd_nw, if_pos rfl]) hAm (Nat.le_refl 3)) hd (Nat.zero_le _) ?_ (fun _ _ _ q => absurd q id)
  rintro v G6 ⟨rfl, rfl⟩
  obtain ⟨d1, d2, d3, d4, d5, d6⟩ := nl_step (k := 5) (x := x) (nk G5 e5) hLm hAm hE5
  refine wk_gl Lm x 1 (k31 G5 Lm) ?_
  refine blX7_init_56 rfl (by rw [kx G5 Lm (ne G5 Lm e5 hLm)]; exact nx G5 e5) hA (by decide) (fun Lr hLr hAr => ?_)
  change hp_kd (nl_G w G5 x Lm 5) Lr = 0 at hLr
  change wk_V w mX7_init _ 63 _ _ (hp_nw (nl_G w G5 x Lm 5) Lr 22 0) _
  have l6 := al.keep l5 d3 (own2 G5 e5)
  have le6 := al.keep le5 d3 (own2 G5 e5)
  have lc6 := al.keep ⟨c1, c2⟩ d3 (own2 G5 e5)
  have st6 : ∀ b m, st w G5 b m → st w (nl_G w G5 x Lm 5) b m := fun b m u => st_cf d3 (fun y hy => by rw [hy, nx G5 e5]; exact ⟨by decide, by decide⟩) u
  have m6 := m5.fr d3 st6 hhx (fun y _ hy u => by rw [u, nx G5 e5] at hy; omega)
  have e6 : cf (fun y => y = x) G (nl_G w G5 x Lm 5) := e5.tr d3
  have n6 : Lm ≠ Lv ∧ Lm ≠ Le ∧ Lm ≠ Lc := ⟨fun u => (by have := l5.1.1.1; rw [← u, hLm] at this; cases this), fun u => (by have := le5.1.1.1; rw [← u, hLm] at this; cases this), fun u => (by have := c1.1.1; rw [← u, hLm] at this; cases this)⟩
  have r61 := (d5 1 (by decide)).trans r51
  have r62 := (d5 2 (by decide)).trans r52
  have r63 := (d5 3 (by decide)).trans r53
  have r64 := (d5 4 (by decide)).trans c4
  have r60 := (d5 0 (by decide)).trans r50
  have i6 := d6.trans i5
  have gLm := e5.fresh hLm
  generalize nl_G w G5 x Lm 5 = G6 at d1 d2 d4 hLr l6 le6 lc6 m6 e6 r61 r62 r63 r64 r60 i6 ⊢
  have hE6 : kE w G6 := hE.fr e6
  refine blX7_init_63 rfl (J5_init_C (d := 3) (by rw [hp_kd_nw, if_pos rfl]) hAr (Nat.le_refl 3)) hd (Nat.zero_le _) ?_ (fun _ _ _ q => absurd q id)
  rintro v G7 ⟨rfl, rfl⟩
  obtain ⟨g1, g2, g3, g4, g5, g6⟩ := nl_step (k := 6) (x := x) (nk G6 e6) hLr hAr hE6
  refine wk_gl Lr x 1 (k31 G6 Lr) ?_
  refine blX7_init_67 rfl (by rw [kx G6 Lr (ne G6 Lr e6 hLr)]; exact nx G6 e6) hA ⟨rfl, Lv, hv, Le, Lc, Lm, Lr, ?_⟩
  have l7 := al.keep l6 g3 (own2 G6 e6)
  have le7 := al.keep le6 g3 (own2 G6 e6)
  have lc7 := al.keep lc6 g3 (own2 G6 e6)
  have lm7 := al.keep ⟨d1, d2⟩ g3 (own2 G6 e6)
  have st7 : ∀ b m, st w G6 b m → st w (nl_G w G6 x Lr 6) b m := fun b m u => st_cf g3 (fun y hy => by rw [hy, nx G6 e6]; exact ⟨by decide, by decide⟩) u
  have m7 := m6.fr g3 st7 hhx (fun y _ hy u => by rw [u, nx G6 e6] at hy; omega)
  have n7 : Lr ≠ Lv ∧ Lr ≠ Le ∧ Lr ≠ Lc ∧ Lr ≠ Lm := ⟨fun u => (by have := l6.1.1.1; rw [← u, hLr] at this; cases this), fun u => (by have := le6.1.1.1; rw [← u, hLr] at this; cases this), fun u => (by have := lc6.1.1.1; rw [← u, hLr] at this; cases this), fun u => (by have := d1.1.1; rw [← u, hLr] at this; cases this)⟩
  refine ⟨⟨(g5 1 (by decide)).trans r61, (g5 2 (by decide)).trans r62, (g5 3 (by decide)).trans r63, (g5 4 (by decide)).trans r64, (g5 5 (by decide)).trans d4, g4⟩, ?_, ?_, ⟨a3.fresh hhv, m7⟩, e6.tr g3, (g5 0 (by decide)).trans r60, g6.trans i6⟩
  · simp only [List.nodup_cons, List.mem_cons, List.not_mem_nil, or_false, not_or, not_false_eq_true, List.nodup_nil, and_true]
    exact ⟨⟨n4.symm, n5.1.symm, n6.1.symm, n7.1.symm⟩, ⟨n5.2.symm, n6.2.1.symm, n7.2.1.symm⟩, ⟨n6.2.2.symm, n7.2.2.1.symm⟩, n7.2.2.2.symm⟩
  · intro L hL
    simp only [List.mem_cons, List.not_mem_nil, or_false] at hL
    rcases hL with rfl | rfl | rfl | rfl | rfl
    · exact ⟨hLv, l7⟩
    · exact ⟨gLe, le7⟩
    · exact ⟨gLc, lc7⟩
    · exact ⟨gLm, lm7⟩
    · exact ⟨e6.fresh hLr, g1, g2⟩
end
