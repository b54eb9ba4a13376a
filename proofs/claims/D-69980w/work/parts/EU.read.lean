/-! THE COMPONENT's PARSER: read -/
set_option maxRecDepth 100000
/-- the rest of a world -/
abbrev PU : Type := ((Nat → Nat) × (Nat → Int32)) × (Nat → Nat) × Nat × (Nat → Option (Nat × Nat))
section
variable {z : RZ} {u : PU} {q : PZ} {S S' S0 : MS} {G G' G00 : GH} {Ln cn hN c c' : Nat} {TP TC TA A P Qn L : Nat → Nat} {d : Nat → ND} {r : PE}
theorem rat_end (h : rat z c G) : hp_r G z.2.1 6 = hp_sv z.1 "StreamNodes$Sign" "END" ↔ lx_kind (rz_T z) (rz_n z) c = 0 := h.sign (k := 0) (by decide)
/-- a reader's list and map, between reads -/
def rdL (z : RZ) (Ln hN : Nat) (G : GH) : Prop := kc z.1 G ∧ (hp_r G z.2.1 8 = some Ln ∧ ow G Ln z.2.1) ∧ (∃ n c el, al z.1 G Ln n c el ∧ c ≤ 100) ∧ hp_r G z.2.1 9 = some hN ∧ ∃ s m, hm z.1 G hN s m
theorem nsI_rdL (h : nsI q c S G Ln cn hN) (hc : cn ≤ 100) : rdL q.1 Ln hN G := ⟨h.2.1, h.2.2.2.1.1, ⟨_, _, _, h.2.2.2.1.2, hc⟩, h.2.2.2.2.1.1, _, _, h.2.2.2.2.1.2⟩
theorem rdL.go (h : rdL z Ln hN G) (hR : hp_kd G z.2.1 = 12) (hB : hp_kd G z.2.2.2.1 = 3) (hf : rx z no9 G G') (hk : rkk z G G') : rdL z Ln hN G' := by
  obtain ⟨h1, ⟨h2, h3⟩, ⟨n, c, el, h4, h5⟩, h6, s, m, h7⟩ := h
  exact ⟨h1.fr hR hB hf (fun y u => u.elim), ⟨by rw [hk 8 (by decide)]; exact h2, h3.cg (hf.1.lg (by rw [h4.1.1]; decide))⟩, ⟨n, c, el, al_rx h4 hR hB hf, h5⟩, by rw [hk 9 (by decide)]; exact h6, s, m, hm_rx h7 hR hB hf (fun y u => u.elim)⟩
/-- the cells of a reader's list and map -/
def rdO (Ln hN : Nat) (G : GH) (y : Nat) : Prop := al_o G Ln y ∨ hm_o G hN y
theorem rdO.back {own : Nat → Prop} {y : Nat} (hf : cf own G G') (hy : hp_kd G y ≠ 0) (h : rdO Ln hN G' y) : rdO Ln hN G y := h.imp (al_o.back hf hy) (hm_o.back hf hy)
/-- what read leaves -/
def rdP (z : RZ) (Ln hN : Nat) (G00 : GH) (r : PE) (u0 : Nat) (v : Option WV) (G' : GH) : Prop := v = none ∧ ∃ (u : PU) (c' : Nat) (S' : MS) (d : Nat → ND) (TP TC TA A P Qn L : Nat → Nat) (cn : Nat), r = .inr (0, c', S') ∧ rdZ (z, u) c' S' d TP TC TA A P Qn L Ln cn hN G' ∧ (rx z (rdO Ln hN G00) G00 G' ∧ rkk z G00 G') ∧ cb (49 * c' + 274 * pr_v S' + 5 * pr_p S' + u0) G00 G' ∧ 0 < pr_N S'
/-- a fault -/
def rdY (z : RZ) (Ln hN : Nat) (G00 : GH) (r : PE) (E : String) (a : Nat) (G' : GH) : Prop := ∃ k c', r = .inl (k, c') ∧ er z (rdO Ln hN G00) G00 k c' E a G' ∧ rdL z Ln hN G'
def rdB (z : RZ) (c : Nat) (S : MS) : Nat := 49 * (rz_n z - c) + 274 * (rz_n z - pr_v S) + 5 * (rz_n z - pr_p S) + 2 * rz_n z + 400
theorem rd_cost {n c c1 v v1 p p1 : Nat} (h1 : c ≤ c1) (h2 : c1 ≤ n) (h3 : v ≤ v1) (h4 : v1 ≤ n) (h5 : p ≤ p1) (h6 : p1 ≤ n) : 49 * (c1 - c) + 274 * (v1 - v) + 5 * (p1 - p) + (49 * (n - c1) + 274 * (n - v1) + 5 * (n - p1) + 2 * n + 400) ≤ 49 * (n - c) + 274 * (n - v) + 5 * (n - p) + 2 * n + 400 := by omega
theorem rd_cost2 {u0 c c1 v v1 p p1 : Nat} (h1 : c ≤ c1) (h3 : v ≤ v1) (h5 : p ≤ p1) : (49 * c + 274 * v + 5 * p + u0) + (49 * (c1 - c) + 274 * (v1 - v) + 5 * (p1 - p)) ≤ 49 * c1 + 274 * v1 + 5 * p1 + u0 := by omega
theorem X3_read_L {D B f0 u0 : Nat} (hcmp : cmp_o z.1) (hD : 907 ≤ D) : ∀ f c S (u : PU) (d : Nat → ND) (TP TC TA A P Qn L : Nat → Nat) cn G, nds (rz_T z) (rz_n z) f0 f c S = some r → rdZ (z, u) c S d TP TC TA A P Qn L Ln cn hN G → rx z (rdO Ln hN G00) G00 G → rkk z G00 G → cb (49 * c + 274 * pr_v S + 5 * pr_p S + u0) G00 G →
    wk_V z.1 mX3_read (D, B, rdP z Ln hN G00 r u0, rdY z Ln hN G00 r, hp_cs G00, hp_ss G00) 58 [(0, vR (some z.2.1))] [] G (rdB z c S) := by
  intro f
  induction f with
  | zero => intro c S u d TP TC TA A P Qn L cn G h; cases h
  | succ f ih =>
    intro c S u d TP TC TA A P Qn L cn G h hZ hx hk hcb
    unfold nds at h
    obtain ⟨r1, h1, hx1, h⟩ := pr_b_some h
    have hR := hZ.1.1.1.1.1
    have hB := hZ.1.1.1.2.1.1
    refine wk_have fun hA hB' => ?_
    refine blX3_read_58 hR (X3_node_C (D := 906) (q := (z, u)) hcmp (Nat.le_refl 906) hZ h1) (by show 906 + 1 ≤ D; omega) ?_ ?_ (fun E a G' w => ?_)
    · have := wvn_274 (m := min 99 (rz_n z - pr_v S)) (by omega)
      show 20 * (rz_n z - c) + 60 + wvn (min 99 (rz_n z - pr_v S)) + (2 * rz_n z + 20 + (5 * (rz_n z - pr_p S) + 296)) ≤ rdB z c S
      unfold rdB
      omega
    · rintro v G1 ⟨rfl, c1, S1, t, de, TP', TC', TA', A', P', Qn', L', rfl, hZ', ⟨fx, kk⟩, h13, hcb'⟩
      have h := h _ _ _ rfl
      obtain ⟨-, -, ⟨m1, m2, m3, m4⟩, -, m5⟩ := nfs.step h1 hZ.2.2.1.1 hZ.1.2.2.1 hZ.2.2.1.2
      have hI' := hZ'.2.2.1.1
      have hc1 : c1 ≤ rz_n z := hZ'.1.1.2.1
      have hv1 : pr_v S1 ≤ c1 := hI'.2.2.1
      have hp1 : pr_p S1 ≤ c1 := hI'.2.2.2.2.2.2.1
      refine wk_bk hA hB' hcb' (r' := rdB z c1 S1) (rd_cost (by omega) hc1 m1 (by omega) m3 (by omega)) ?_
      have hx' : rx z (rdO Ln hN G00) G00 G1 := hx.tr fx (fun y hy w => rdO.back hx.1 hy w)
      have hk' : rkk z G00 G1 := fun k h => (kk k h).trans (hk k h)
      have hcb2 := (hcb.tr hcb').mono (rd_cost2 (u0 := u0) (c := c) (c1 := c1) (by omega) m1 m3)
      have hsg := rat_end hZ'.1.1
      refine blX3_read_62 (blX3_read_48 hZ'.1.1.1.1.1 (fun w => ?_) (fun w => ?_))
      · rw [if_pos (hsg.1 w)] at h
        refine blX3_read_65 ⟨rfl, _, c1, S1, _, TP', TC', TA', A', P', Qn', L', _, (Option.some.inj h).symm, hZ', ⟨hx', hk'⟩, hcb2, by omega⟩
      · rw [if_neg (fun e => w (hsg.2 e))] at h
        exact ih c1 S1 _ _ TP' TC' TA' A' P' Qn' L' _ G1 h hZ' hx' hk' hcb2
    · obtain ⟨k, c', e, h3⟩ := w
      exact wk_out0 rfl ⟨k, c', hx1 _ e, h3.of hx hk (fun _ _ w => w.elim), (nsI_rdL (q := (z, u)) hZ.1 hZ.2.2.2.2.1.1).go hR hB h3.2.2.2.2.1 h3.2.2.2.2.2⟩
theorem no9_of {own : Nat → Prop} (h : cf (fun y => y = z.2.1) G G') (hR : hp_kd G z.2.1 = 12) : rx z no9 G G' := by
  have x := rx_of (z := z) h (fun a w => by rw [w, hR]; exact ⟨by decide, by decide⟩)
  exact ⟨x.1.mono (fun a _ w => w.elim (fun w => Or.inr (Or.inl w)) Or.inr), x.2⟩
theorem X3_read_10 {D nn s r2 B : Nat} {el : Nat → Option Nat} {mm : List Nat → Option Nat} (u : PU) (hcmp : cmp_o z.1) (hD : 908 ≤ D) (hsn : sn G) (hkc : kc z.1 G) (hb : rb z G) (hL : (hp_r G z.2.1 8 = some Ln ∧ ow G Ln z.2.1) ∧ al z.1 G Ln nn cn el) (hcn : cn ≤ 100) (hM : hp_r G z.2.1 9 = some hN ∧ hm z.1 G hN s mm) (hT : S0.2 0 = rz_T z) (hz0 : pr_N S0 = 0 ∧ pr_v S0 = 0 ∧ pr_k S0 = 0 ∧ pr_p S0 = 0 ∧ pr_l S0 = 0) (hI : nd_I (rz_n z) (lx_skip (rz_T z) (rz_n z) 0) S0) (hr : rd_R (rz_T z) (rz_n z) S0 = some r) :
    wk_V z.1 mX3_read (D, 379 * rz_n z + 500, rdP z Ln hN G r 10, rdY z Ln hN G r, hp_cs G, hp_ss G) 10 [(0, vR (some z.2.1))] [] G (379 * rz_n z + 500) := by
  have hR : hp_kd G z.2.1 = 12 := hb.1.1
  have hRA := hb.1.2.1
  have hB : hp_kd G z.2.2.2.1 = 3 := hb.2.1.1
  have kT : hp_kd G z.2.2.1 = 30 := hb.2.2.1.1
  have kL := hL.2.1.1
  have kh := hM.2.1.1
  have hn := hb.2.2.2.1
  have f2 : cf (fun y => y = z.2.1) G (hp_sI G z.2.1 4 0) := cf.rf.sI (Or.inl rfl)
  have x2 : rx z no9 G (hp_sI G z.2.1 4 0) := no9_of (own := no9) f2 hR
  have k2 : rkk z G (hp_sI G z.2.1 4 0) := fun _ _ => rfl
  have b2 : rb z (hp_sI G z.2.1 4 0) := hb.sI (by decide)
  have i2 : hp_i (hp_sI G z.2.1 4 0) z.2.1 4 = 0 := by rw [hp_i_sI, if_pos rfl, if_pos rfl]
  have a2 := al_rx hL.2 hR hB x2
  have m2 := hm_rx hM.2 hR hB x2 (fun y w => w.elim)
  have c2 := hkc.fr hR hB x2 (fun y w => w.elim)
  have hR2 : hp_kd (hp_sI G z.2.1 4 0) z.2.1 = 12 := hR
  have hB2 : hp_kd (hp_sI G z.2.1 4 0) z.2.2.2.1 = 3 := hB
  have kT2 : hp_kd (hp_sI G z.2.1 4 0) z.2.2.1 = 30 := kT
  have e8 : hp_r (hp_sI G z.2.1 4 0) z.2.1 8 = some Ln := hL.1.1
  have e9 : hp_r (hp_sI G z.2.1 4 0) z.2.1 9 = some hN := hM.1
  have o2 : ow (hp_sI G z.2.1 4 0) Ln z.2.1 := hL.1.2
  refine blX3_read_10 hR hRA hL.1.1 kL (J5_clear_C (d := 0) a2) (by show 0 + 1 ≤ D; omega) (Nat.zero_le _) ?_ (fun _ _ _ w => absurd w id)
  generalize hp_sI G z.2.1 4 0 = G2 at f2 x2 k2 b2 i2 a2 m2 c2 hR2 hB2 kT2 e8 e9 o2
  have kL2 : hp_kd G2 Ln = 22 := a2.1.1
  rintro v G3 ⟨rfl, a3, f3⟩
  have kw : ∀ y, al_o G2 Ln y → hp_kd G2 y = 22 ∨ hp_kd G2 y = 32 := fun y w => al_ok w kL2
  have ng : ∀ y, (hp_kd G2 y ≠ 22 ∧ hp_kd G2 y ≠ 32) → ¬ al_o G2 Ln y := fun y hy w => by have := kw y w; omega
  have x3 : rx z (al_o G2 Ln) G2 G3 := rx_of f3 (fun y w => by have := kw y w; omega)
  have hR3 : hp_kd G3 z.2.1 = 12 := f3.k hR2 (by decide)
  have hB3 : hp_kd G3 z.2.2.2.1 = 3 := f3.k hB2 (by decide)
  have r3 : hp_r G3 z.2.1 = hp_r G2 z.2.1 := f3.r (by rw [hR2]; decide) (ng _ (by rw [hR2]; decide))
  have i3 : hp_i G3 z.2.1 = hp_i G2 z.2.1 := f3.i (by rw [hR2]; decide) (ng _ (by rw [hR2]; decide))
  have b3 : rb z G3 := b2.fr f3 (ng _ (by rw [hR2]; decide)) (ng _ (by rw [kT2]; decide))
  have kT3 : hp_kd G3 z.2.2.1 = 30 := f3.k kT2 (by decide)
  have m3 := hm_rx m2 hR2 hB2 x3 (fun y w => by have := kw y w; unfold ok9; omega)
  have c3 := c2.fr hR2 hB2 x3 (fun y w => by have := kw y w; unfold ok9; omega)
  have kh3 : hp_kd G3 hN = 23 := m3.1.1
  have kL3 : hp_kd G3 Ln = 22 := a3.1.1
  refine blX3_read_22 hR3 (by rw [r3]; exact e9) kh3 (J7_clear_C (d := 0) m3) (by show 0 + 1 ≤ D; omega) (Nat.zero_le _) ?_ (fun _ _ _ w => absurd w id)
  rintro v G4 ⟨rfl, m4, f4⟩
  have ko : ∀ y, hm_o G3 hN y → hp_kd G3 y = 23 ∨ hp_kd G3 y = 35 ∨ hp_kd G3 y = 24 ∨ hp_kd G3 y = 25 := by
    rintro y (w | ⟨-, w⟩)
    · rw [w, kh3]; omega
    · omega
  have no : ∀ y, (hp_kd G3 y ≠ 23 ∧ hp_kd G3 y ≠ 35 ∧ hp_kd G3 y ≠ 24 ∧ hp_kd G3 y ≠ 25) → ¬ hm_o G3 hN y := fun y hy w => by have := ko y w; omega
  have x4 : rx z (hm_o G3 hN) G3 G4 := rx_of f4 (fun y w => by have := ko y w; omega)
  have hR4 : hp_kd G4 z.2.1 = 12 := f4.k hR3 (by decide)
  have hB4 : hp_kd G4 z.2.2.2.1 = 3 := f4.k hB3 (by decide)
  have r4 : hp_r G4 z.2.1 = hp_r G3 z.2.1 := f4.r (by rw [hR3]; decide) (no _ (by rw [hR3]; decide))
  have i4 : hp_i G4 z.2.1 = hp_i G3 z.2.1 := f4.i (by rw [hR3]; decide) (no _ (by rw [hR3]; decide))
  have b4 : rb z G4 := b3.fr f4 (no _ (by rw [hR3]; decide)) (no _ (by rw [kT3]; decide))
  have a4 := a3.fr f4 (no _ (by rw [kL3]; decide)) (fun y _ hk => no _ (by rw [hk]; decide))
  have c4 := c3.fr2 f4 x4.2.1 (fun y w => by have := ko y w; omega)
  refine blX3_read_29 hR4 (X3_scan_C (d := 7) (p := 0) b4 (by rw [i4, i3]; exact i2) (Nat.zero_le _) (Nat.le_refl 7)) (by show 7 + 1 ≤ D; omega) (by omega) ?_ (fun _ _ _ w => absurd w id)
  rintro v G5 ⟨rfl, t1, t2⟩
  have x5 : rx z no9 G4 G5 := t2.1.toX no9
  have hR5 : hp_kd G5 z.2.1 = 12 := t1.1.1.1
  have a5 := al_rx a4 hR4 hB4 x5
  have m5 := hm_rx m4 hR4 hB4 x5 (fun y w => w.elim)
  have c5 := c4.fr hR4 hB4 x5 (fun y w => w.elim)
  have k5 : rkk z G G5 := fun k hk => by rw [t2.2 k (by omega), r4, r3]; exact k2 k hk
  have y2 : rx z (rdO Ln hN G) G G2 := x2.mono (fun _ _ w => w.elim)
  have y3 : rx z (rdO Ln hN G) G G3 := y2.tr x3 (fun y hy w => Or.inl (al_o.back x2.1 hy w))
  have y4 : rx z (rdO Ln hN G) G G4 := y3.tr x4 (fun y hy w => Or.inr (hm_o.back y3.1 hy w))
  have y5 : rx z (rdO Ln hN G) G G5 := y4.tr x5 (fun _ _ w => w.elim)
  have o5 : ow G5 Ln z.2.1 := ((o2.cg (f3.lg (by rw [kL2]; decide))).cg (f4.lg (by rw [kL3]; decide))).cg (x5.1.lg (by rw [a4.1.1]; decide))
  have q8 : hp_r G5 z.2.1 8 = some Ln := by rw [t2.2 8 (by omega), r4, r3]; exact e8
  have q9 : hp_r G5 z.2.1 9 = some hN := by rw [t2.2 9 (by omega), r4, r3]; exact e9
  have hsg := rat_end t1
  unfold rd_R at hr
  generalize lx_skip (rz_T z) (rz_n z) 0 = c0 at t1 hsg hI hr
  obtain ⟨z1, z2, z3, z4, z5⟩ := hz0
  have hns : nsI (z, u) c0 S0 G5 Ln cn hN := by
    refine ⟨t1, c5, hT, ⟨⟨q8, o5⟩, ?_⟩, ⟨q9, ?_⟩, fun f hf => absurd hf (by omega)⟩
    · rw [z1]
      exact a5.cg (fun i hi => absurd hi (Nat.not_lt_zero i))
    · rw [z1, mpf_nil]
      exact m5
  refine blX3_read_33 hR5 (fun w => ?_) (fun w => ?_)
  · refine blX3_read_48 hR5 (fun w2 => absurd w2 w) (fun _ => ?_)
    refine wk_cb (by omega) fun hc => wk_nrm ?_
    refine wk_less (show rdB z c0 S0 ≤ _ by unfold rdB; omega) ?_
    refine X3_read_L (D := D) hcmp (by omega) _ c0 S0 u (fun _ => ((z, u), S0, fun _ => 0, fun _ => 0, fun _ => 0, fun _ => 0)) (fun _ => 0) (fun _ => 0) (fun _ => 0) (fun _ => 0) (fun _ => 0) (fun _ => 0) (fun _ => 0) cn _ hr ⟨hns.nrm, sn_nrm, ⟨hI, ⟨z2.symm, z3.symm, z4.symm, z5.symm⟩, fun f hf => absurd hf (by omega), fun h => absurd h (by omega), fun e he => absurd he (by omega)⟩, fun g hg => absurd hg (by omega), ⟨hcn, fun f hf => absurd hf (by omega)⟩, fun f hf => absurd hf (by omega)⟩ ⟨y5.1.nrm hsn, y5.2⟩ k5 ?_
    exact cb.mono hc (by omega)
  · have k0 := hsg.1 w
    refine blX3_read_43 hR5 (X3_misfit_C (d := 1) t1 (Nat.le_refl 1)) (by show 1 + 1 ≤ D; omega) (Nat.zero_le _) ?_ (fun _ _ _ w => absurd w id)
    rintro v G6 ⟨rfl, e1, e2⟩
    have er1 : r = .inl (1, c0) := by
      unfold nds nd at hr
      rw [if_neg (fun h => by rw [h.1] at k0; exact absurd k0 (by decide))] at hr
      exact (Option.some.inj hr).symm
    refine blX3_read_47 rfl (by rw [e2]; decide) (by rw [e2]; decide) (wk_out0 rfl ⟨1, c0, er1, ?_, ?_⟩)
    · rw [e2]
      exact e1.of y5 k5 (fun _ _ w => w.elim)
    · exact (nsI_rdL (q := (z, u)) hns hcn).go hR5 (x5.1.k hB4 (by decide)) e1.2.2.2.2.1 e1.2.2.2.2.2
theorem X3_read_C {D nn s : Nat} {el : Nat → Option Nat} {mm : List Nat → Option Nat} (u : PU) (hcmp : cmp_o z.1) (hD : 908 ≤ D) (hsn : sn G) (hkc : kc z.1 G) (hb : rb z (hp_sI (hp_sR G z.2.1 1 (some z.2.2.1)) z.2.1 2 (nI (rz_n z)))) (hL : (hp_r G z.2.1 8 = some Ln ∧ ow G Ln z.2.1) ∧ al z.1 G Ln nn cn el) (hcn : cn ≤ 100) (hM : hp_r G z.2.1 9 = some hN ∧ hm z.1 G hN s mm) (hT : S0.2 0 = rz_T z) (hz0 : pr_N S0 = 0 ∧ pr_v S0 = 0 ∧ pr_k S0 = 0 ∧ pr_p S0 = 0 ∧ pr_l S0 = 0) (hI : nd_I (rz_n z) (lx_skip (rz_T z) (rz_n z) 0) S0) (hr : rd_R (rz_T z) (rz_n z) S0 = some r) :
    wk_C z.1 mX3_read D (379 * rz_n z + 500) [vR (some z.2.1), vR (some z.2.2.1), vI (nI (rz_n z))] G (rdP z Ln hN (hp_sI (hp_sR G z.2.1 1 (some z.2.2.1)) z.2.1 2 (nI (rz_n z))) r 10) (rdY z Ln hN (hp_sI (hp_sR G z.2.1 1 (some z.2.2.1)) z.2.1 2 (nI (rz_n z))) r) := by
  have hR : hp_kd G z.2.1 = 12 := hb.1.1
  have hRA := hb.1.2.1
  have hB : hp_kd G z.2.2.2.1 = 3 := hb.2.1.1
  have f1 : cf (fun y => y = z.2.1) G (hp_sI (hp_sR G z.2.1 1 (some z.2.2.1)) z.2.1 2 (nI (rz_n z))) := ((cf.rf (own := fun y => y = z.2.1)).sR (Or.inl rfl)).sI (Or.inl rfl)
  have x1 := no9_of (own := no9) f1 hR
  have r1 : ∀ k, k ≠ 1 → hp_r (hp_sI (hp_sR G z.2.1 1 (some z.2.2.1)) z.2.1 2 (nI (rz_n z))) z.2.1 k = hp_r G z.2.1 k := fun k hk => by rw [hp_r_sI, hp_r_sR, if_pos rfl, if_neg hk]
  refine wk_C_of (by decide) rfl (Nat.le_of_ble_eq_true rfl) ?_
  exact blX3_read_0 hR hRA (X3_read_10 (B := 0) (r2 := 0) u hcmp hD hsn (hkc.fr hR hB x1 (fun y w => w.elim)) hb ⟨⟨by rw [r1 8 (by decide)]; exact hL.1.1, hL.1.2⟩, al_rx hL.2 hR hB x1⟩ hcn ⟨by rw [r1 9 (by decide)]; exact hM.1, hm_rx hM.2 hR hB x1 (fun y w => w.elim)⟩ hT hz0 hI hr)
end
