/-! THE COMPONENT's PARSER: the variables of a group are made -/
set_option maxRecDepth 100000
section
variable {q : PZ} {S S' S0 : MS} {G G' G00 : GH}
theorem vx.fr2 {own : Nat → Prop} {v : Nat} (h : vx q S G v) (hf : cf own G G') (hst : ∀ a l, st q.1.1 G a l → st q.1.1 G' a l) (ho : ∀ y, own y → hp_kd G y ≠ 5 ∧ hp_kd G y ≠ 6) : vx q S G' v := by
  obtain ⟨⟨h1, h2⟩, ⟨nm, h3, h4⟩, h5, h6, h7, b, h8, h9⟩ := h
  have n1 : ¬ own (qV q v) := fun u => (ho _ u).2 h1
  have k1 : hp_kd G (qV q v) ≠ 0 := by rw [h1]; decide
  refine ⟨⟨hf.k h1 (by decide), h2⟩, ⟨nm, by rw [hf.r k1 n1]; exact h3, hst _ _ h4⟩, by rw [hf.r k1 n1]; exact h5, by rw [hf.i k1 n1]; exact h6, ⟨by rw [hf.i k1 n1]; exact h7.1, by rw [hf.r k1 n1]; exact h7.2⟩, b, by rw [hf.r k1 n1]; exact h8, ?_⟩
  rcases h9 with h9 | ⟨k, s, a1, a2, a3, k4, k5, k6, k7⟩
  · exact Or.inl h9
  · have n2 : ¬ own b := fun u => (ho _ u).1 k4
    have kb : hp_kd G b ≠ 0 := by rw [k4]; decide
    exact Or.inr ⟨k, s, a1, a2, a3, hf.k k4 (by decide), by rw [hf.r kb n2]; exact k5, by rw [hf.i kb n2]; exact k6, by rw [hf.i kb n2]; exact k7⟩
theorem kc.fr2 {w : WD} {own : Nat → Prop} (h : kc w G) (hf : cf own G G') (hsc : ∀ a l, hp_sc G a l → hp_sc G' a l) (ho : ∀ y, own y → hp_kd G y ≠ 5) : kc w G' := by
  obtain ⟨h1, h2, ⟨b, y, y1, y2, y3, ⟨y4, y5, y6⟩, y7, y8, y9⟩, h4⟩ := h
  have nb : ¬ own b := fun u => ho _ u y4
  have ny : ¬ own y := fun u => ho _ u y7
  have kb : hp_kd G b ≠ 0 := by rw [y4]; decide
  have ky : hp_kd G y ≠ 0 := by rw [y7]; decide
  exact ⟨fun tx ht => hsc _ _ (h1 tx ht), h2.fr hf, ⟨b, y, y1, y2, y3, ⟨hf.k y4 (by decide), by rw [hf.i kb nb]; exact y5, by rw [hf.r kb nb]; exact y6⟩, hf.k y7 (by decide), by rw [hf.i ky ny]; exact y8, by rw [hf.r ky ny]; exact y9⟩, h4⟩
/-- what an environment keeps but for the node's own map -/
theorem env.parts {own : Nat → Prop} {b : Nat} (h : env q S b G) (hR : hp_kd G q.1.2.1 = 12) (hf : cf own G G') (hst : ∀ a l, st q.1.1 G a l → st q.1.1 G' a l) (hsc : ∀ a l, hp_sc G a l → hp_sc G' a l) (ho : ∀ y, own y → hp_kd G y ≠ 5 ∧ hp_kd G y ≠ 6 ∧ hp_kd G y ≠ 8 ∧ hp_kd G y ≠ 12)
    (hN : ∀ hN, hp_r G q.1.2.1 9 = some hN → ¬ own hN ∧ ∀ x, ow G x hN → (hp_kd G x = 35 ∨ hp_kd G x = 24 ∨ hp_kd G x = 25) → ¬ own x) :
    kc q.1.1 G' ∧ (hp_kd G' (qn q) = 8 ∧ hp_A q.1.1 (qn q) ∧ hp_r G' q.1.2.1 10 = some (qn q)) ∧ (∃ hN, hp_r G' q.1.2.1 9 = some hN ∧ hm q.1.1 G' hN (pr_N S) (mpf (nln (rz_T q.1) S) 0 (pr_N S) (qN q))) ∧ (∀ f, f < pr_N S → hp_kd G' (qN q f) = 8) ∧ (∀ v, pr_a S ≤ v → v < b → vx q S G' v) ∧ hp_r G' (qn q) = hp_r G (qn q) ∧ hp_i G' (qn q) = hp_i G (qn q) ∧ hp_r G' q.1.2.1 = hp_r G q.1.2.1 := by
  obtain ⟨h1, ⟨h2, h3, h4⟩, ⟨hN', h5, h6⟩, ⟨hv, h7, h8⟩, h9, h10⟩ := h
  have nR : ¬ own q.1.2.1 := fun u => (ho _ u).2.2.2 hR
  have nn : ¬ own (qn q) := fun u => (ho _ u).2.2.1 h2
  have kR : hp_kd G q.1.2.1 ≠ 0 := by rw [hR]; decide
  have kn : hp_kd G (qn q) ≠ 0 := by rw [h2]; decide
  refine ⟨h1.fr2 hf hsc (fun y u => (ho y u).1), ⟨hf.k h2 (by decide), h3, by rw [hf.r kR nR]; exact h4⟩, ⟨hN', by rw [hf.r kR nR]; exact h5, h6.fr hf hst (hN _ h5).1 (hN _ h5).2⟩, fun f hfN => hf.k (h9 f hfN) (by decide), fun v v1 v2 => (h10 v v1 v2).fr2 hf hst (fun y u => ⟨(ho y u).1, (ho y u).2.1⟩), hf.r kn nn, hf.i kn nn, hf.r kR nR⟩
/-- the variables' list and names of the node that is read, t variables so far -/
def nvs (q : PZ) (S : MS) (t : Nat) (G00 G : GH) (Lv hv cv : Nat) : Prop := hp_r G (qn q) 1 = some Lv ∧ hp_r G (qn q) 2 = some hv ∧ (hp_kd G00 Lv = 0 ∧ hp_kd G00 hv = 0 ∧ hp_kd G00 (qn q) = 0 ∧ ∀ j, pr_a S ≤ j → j < t → hp_kd G00 (qV q j) = 0) ∧ ow G Lv (qn q) ∧ al q.1.1 G Lv (t - pr_a S) cv (fun j => some (qV q (pr_a S + j)))
/-- the cells that a group changes -/
def gow (G : GH) (Lv hv y : Nat) : Prop := al_o G Lv y ∨ hm_o G hv y
theorem gow.back {own : Nat → Prop} {Lv hv a : Nat} (h : cf own G G') (ha : hp_kd G a ≠ 0) (u : gow G' Lv hv a) : gow G Lv hv a := by
  have el : hp_l G a = hp_l G' a := (h.lg ha).symm
  have ek := h.kd ha
  rcases u with (u | ⟨u1, u2⟩) | (u | ⟨u1, u2⟩)
  · exact Or.inl (Or.inl u)
  · exact Or.inl (Or.inr ⟨u1.cg el, by rw [← ek]; exact u2⟩)
  · exact Or.inr (Or.inl u)
  · exact Or.inr (Or.inr ⟨u1.cg el, by rw [← ek]; exact u2⟩)
theorem gow.new {own : Nat → Prop} {Lv hv y : Nat} (hs : sn G00) (h : cf own G00 G) (h1 : hp_kd G00 Lv = 0) (h2 : hp_kd G00 hv = 0) (u : gow G Lv hv y) : hp_kd G00 y = 0 := by
  rcases u with (u | ⟨u1, u2⟩) | (u | ⟨u1, u2⟩)
  · rw [u]; exact h1
  · exact hs.fresh h h1 u1 (by rw [u2]; decide)
  · rw [u]; exact h2
  · exact hs.fresh h h2 u1 (by omega)
theorem gow.kd {Lv hv y : Nat} (h1 : hp_kd G Lv = 22) (h2 : hp_kd G hv = 23) (u : gow G Lv hv y) : hp_kd G y = 22 ∨ hp_kd G y = 32 ∨ hp_kd G y = 23 ∨ hp_kd G y = 35 ∨ hp_kd G y = 24 ∨ hp_kd G y = 25 := by
  rcases u with (u | ⟨u1, u2⟩) | (u | ⟨u1, u2⟩)
  · rw [u]; exact Or.inl h1
  · exact Or.inr (Or.inl u2)
  · rw [u]; exact Or.inr (Or.inr (Or.inl h2))
  · omega
/-- a variable more -/
def qW (q : PZ) (v x : Nat) (k : Int32) : PZ := (q.1, (hp_u1 (qV q) v x, hp_u1 (qK q) v k), q.2.2)
/-- q' has the variables of q below b -/
def qx (b : Nat) (q q' : PZ) : Prop := q'.1 = q.1 ∧ (∀ v, v < b → qV q' v = qV q v ∧ qK q' v = qK q v) ∧ q'.2.2 = q.2.2
theorem qx.rf {b : Nat} : qx b q q := ⟨rfl, fun _ _ => ⟨rfl, rfl⟩, rfl⟩
theorem qx.W {q q' : PZ} {b v x : Nat} {k : Int32} (h : qx b q q') (hv : b ≤ v) : qx b q (qW q' v x k) := ⟨h.1, fun j hj => by
  have e1 : qV (qW q' v x k) j = qV q' j := by show hp_u1 (qV q') v x j = _; unfold hp_u1; rw [if_neg (by omega)]
  have e2 : qK (qW q' v x k) j = qK q' j := by show hp_u1 (qK q') v k j = _; unfold hp_u1; rw [if_neg (by omega)]
  rw [e1, e2]
  exact h.2.1 j hj, h.2.2⟩
theorem qx.tr {q q' q2 : PZ} {b b' : Nat} (h : qx b q q') (h2 : qx b' q' q2) (hb : b ≤ b') : qx b q q2 := ⟨h2.1.trans h.1, fun v hv => ⟨((h2.2.1 v (by omega)).1).trans (h.2.1 v hv).1, ((h2.2.1 v (by omega)).2).trans (h.2.1 v hv).2⟩, h2.2.2.trans h.2.2⟩
/-- a variable's clock doesn't look at later variables -/
theorem vx.W {v t x : Nat} {k : Int32} (h : vx q S G v) (hck : md_ck S (pr_a S) (v + 1)) (ha : pr_a S ≤ v) (hv : v < t) : vx (qW q t x k) S G v := by
  obtain ⟨h1, h3, h5, h6, h7, b, h8, h9⟩ := h
  have e1 : ∀ j, j < t → qV (qW q t x k) j = qV q j := fun j hj => by show hp_u1 (qV q) t x j = _; unfold hp_u1; rw [if_neg (by omega)]
  have e2 : qK (qW q t x k) v = qK q v := by show hp_u1 (qK q) t k v = _; unfold hp_u1; rw [if_neg (by omega)]
  unfold vx
  rw [e1 v hv, e2]
  refine ⟨h1, h3, h5, h6, h7, b, h8, h9.imp id ?_⟩
  rintro ⟨k', s, a1, a2, a3, a4, a5, a6⟩
  refine ⟨k', s, a1, a2, a3, a4, ?_, a6⟩
  rcases hck v ha (by omega) with u | ⟨k2, u1, u2, u3⟩
  · rw [u] at a3
    exact absurd a3.symm (fun w => absurd (show nI (2 * k' + s) < 0 by rw [w]; decide) (nI_pos (by omega)))
  · rw [u2] at a3
    have := (nI_eq (by omega) (by omega)).1 a3
    show hp_r G b 0 = some (qV (qW q t x k) (pr_a S + k'))
    rw [e1 _ (by omega)]
    exact a5
end
section
variable {q q0 : PZ} {S S' : MS} {G G' G00 Gs : GH} {b : Nat}
theorem ix1 {a b i : Nat} (h : a ≤ b) : b + (i + 1) - a = b + i - a + 1 := by omega
theorem ix3 {a b i j : Nat} (h : a ≤ b) (hj : j < b + i - a + 1) (u : ¬ j = b + i - a) : a + j < b + i := by omega
theorem ix2 {a b i : Nat} (h : a ≤ b) : a + (b + i - a) = b + i := by omega
/-- among the making of a group's variables: i of k are made -/
def gvI (q0 q : PZ) (S' : MS) (b k i c : Nat) (kd : Int32) (tyO : Option Nat) (bb dp : Nat) (G00 Gs G : GH) (LN cn : Nat) (nm : Nat → Nat) (Lv hv cv : Nat) : Prop :=
  (qx b q0 q ∧ ∀ j, b ≤ j → j < b + i → qK q j = kd) ∧ rat q.1 c G ∧ env q S' (b + i) G ∧ nvs q S' (b + i) G00 G Lv hv cv ∧ (gnm q S' b Gs G LN k cn nm ∧ LN ≠ Lv) ∧ (rx q.1 no9 G00 G ∧ rkk q.1 G00 G) ∧ (rx q.1 (gow Gs Lv hv) Gs G ∧ hp_r G (qn q) = hp_r Gs (qn q) ∧ hp_i G (qn q) = hp_i Gs (qn q)) ∧ (hp_kd G bb = 5 ∧ ((zBASE q.1.1 = some bb ∧ dp = 0 ∧ ∀ j, b ≤ j → j < b + k → S'.2 22 j = -1) ∨ ∃ k' s, s < 2 ∧ k' < 2 ^ 29 ∧ pr_a S' + k' < b ∧ (∀ j, b ≤ j → j < b + k → S'.2 22 j = nI (2 * k' + s)) ∧ hp_r G bb 0 = some (qV q (pr_a S' + k')) ∧ hp_i G bb 1 = nI s ∧ hp_i G bb 2 = nI dp ∧ dp ≤ 8))
theorem X3_vars_L {D B LN W c k bb dp cs ss hm9 cn : Nat} {nm : Nat → Nat} {kd : Int32} {tyO : Option Nat} {P : Option WV → GH → Prop} {PX : String → Nat → GH → Prop} (hcmp : cmp_o q0.1.1) (hD : 29 ≤ D) (hsn : sn G00) (hV : pe_V (rz_n q0.1) S') (hpv : pr_v S' = b + k) (hab : pr_a S' ≤ b) (h99 : b + k ≤ pr_a S' + 99) (hty : ∀ j, b ≤ j → j < b + k → tyO = ty q0.1.1 (S'.2 24 j)) (hdp : ∀ j, b ≤ j → j < b + k → md_dep S' (pr_a S') (j + 1) j = dp) (hhN : hp_r G00 q0.1.2.1 9 = some hm9) (hhN2 : hp_kd G00 hm9 ≠ 0)
    (K : ∀ q G cv, ∀ Lv hv, gvI q0 q S' b k k c kd tyO bb dp G00 Gs G LN cn nm Lv hv cv → ∀ r2, W ≤ r2 + wvn (b + k - pr_a S') → wk_V q0.1.1 mX3_group (D, B, P, PX, cs, ss) 289 [] [] G r2) :
    ∀ m i q G cv Lv hv, i + m = k → gvI q0 q S' b k i c kd tyO bb dp G00 Gs G LN cn nm Lv hv cv → ∀ r2, W ≤ r2 + wvn (b + i - pr_a S') → wvn (b + k - pr_a S') ≤ W →
      wk_V q0.1.1 mX3_group (D, B, P, PX, cs, ss) 205 [(0, vR (some q0.1.2.1)), (1, vI kd), (3, vR (some LN)), (4, vR tyO), (5, vR (some bb)), (6, vI (nI i))] [] G r2 := by
  intro m
  induction m with
  | zero =>
    intro i q G cv Lv hv hi hI r2 hr2 hW
    have hN1 := hI.2.2.2.2.1.1.1
    have ew : q.1.1 = q0.1.1 := by rw [hI.1.1.1]
    rw [ew] at hN1
    have hk24 := hN1.2.1
    refine blX3_group_205 rfl hN1.1.1 (J5_size_C (d := 0) hN1) (by show 0 + 1 ≤ D; omega) (Nat.zero_le _) ?_ (fun _ _ _ u => absurd u id)
    rintro v G' ⟨rfl, rfl⟩
    have e : i = k := by omega
    subst e
    exact blX3_group_211 (fun _ => K q G' cv Lv hv hI _ (by omega)) (fun u => absurd (nI_le (Nat.le_refl _) (by omega)) u)
  | succ m ih =>
    intro i q G cv Lv hv hi hI r2 hr2 hW
    obtain ⟨⟨hq, hqk⟩, hrat, henv, ⟨n1, n2, ⟨n3, n4, n5⟩, n6, n7⟩, ⟨hN, hne⟩, ⟨f00, f01⟩, ⟨fs0, fs1, fs2⟩, kbb, hbt⟩ := id hI
    obtain ⟨e1, e2, e3⟩ := id hq
    have ew : q.1.1 = q0.1.1 := by rw [e1]
    have eR : q.1.2.1 = q0.1.2.1 := by rw [e1]
    have eV : ∀ M j pc lv stk G r, wk_V q.1.1 M j pc lv stk G r → wk_V q0.1.1 M j pc lv stk G r := fun M j pc lv stk G r h => by rw [← ew]; exact h
    rw [← eR]
    refine eV _ _ _ _ _ _ _ ?_
    obtain ⟨v1, v2, v3, v4, v5, v6, v7, v8, v9⟩ := hV.N
    have hwv : wvn (b + (i + 1) - pr_a S') ≤ wvn (b + k - pr_a S') := wvn_le (by omega)
    have hws : wvn (b + (i + 1) - pr_a S') = wvn (b + i - pr_a S') + 78 + 4 * (b + i - pr_a S') := by rw [show b + (i + 1) - pr_a S' = (b + i - pr_a S') + 1 by omega]; exact wvn_s
    have kR := hrat.1.1.1
    obtain ⟨c1, ⟨y1, y2, y3⟩, ⟨hN', c2, c3⟩, ⟨hv', c4, c5⟩, c6, c7⟩ := id henv
    have ehv : hv' = hv := by rw [n2] at c4; exact (Option.some.inj c4).symm
    subst ehv
    have khv := c5.1.1
    have kLv := n7.1.1
    have kLN := hN.1.1.1
    have hk24 := hN.1.2.1
    refine blX3_group_205 rfl kLN (J5_size_C (d := 0) hN.1) (by show 0 + 1 ≤ D; omega) (Nat.zero_le _) ?_ (fun _ _ _ u => absurd u id)
    rintro v G9 ⟨rfl, rfl⟩
    refine blX3_group_211 (fun u => absurd u (nI_ge (by omega) (by omega))) (fun _ => ?_)
    refine blX3_group_214 (by omega) (fun x hx hA => ?_)
    have f1 : cf (fun _ => False) G9 (hp_nw G9 x 6 0) := cf.rf.nw hx
    have kx1 : hp_kd (hp_nw G9 x 6 0) x = 6 := by rw [hp_kd_nw, if_pos rfl]
    have hN1 : al q.1.1 (hp_nw G9 x 6 0) LN k cn (fun i => some (nm i)) := hN.1.fr f1 (fun u => u) (fun _ _ _ u => u)
    refine blX3_group_217 rfl (f1.k kLN (by decide)) (J5_get_C (d := 2) hN1 (i := i) (by omega) (Nat.le_refl 2)) (by show 2 + 1 ≤ D; omega) (Nat.zero_le _) ?_ (fun _ _ _ u => absurd u id)
    rintro v G8 ⟨rfl, rfl⟩
    have hst0 := hN.2.1 i (by omega)
    have knm : hp_kd G9 (nm i) = 26 := hst0.1.1
    have n71 : al q.1.1 (hp_nw G9 x 6 0) Lv (b + i - pr_a S') cv (fun j => some (qV q (pr_a S' + j))) := n7.fr f1 (fun u => u) (fun _ _ _ u => u)
    refine blX3_group_224 (fun y hy => ?_) (f1.k kR (by decide)) (by rw [f1.r (by rw [kR]; decide) (fun u => u)]; exact y3) (f1.k y1 (by decide)) (by rw [f1.r (by rw [y1]; decide) (fun u => u)]; exact n1) (f1.k kLv (by decide)) (J5_size_C (d := 0) n71) (by show 0 + 1 ≤ D; omega) (Nat.zero_le _) ?_ (fun _ _ _ u => absurd u id)
    · rw [← Option.some.inj hy, f1.k knm (by decide)]
      exact ⟨by decide, by decide, Or.inl rfl⟩
    rintro v G7 ⟨rfl, rfl⟩
    refine blX3_group_240 rfl (X9_init_C (d := 1) kx1 hA (Nat.le_refl 1)) (by show 1 + 1 ≤ D; omega) (Nat.zero_le _) ?_ (fun _ _ _ u => absurd u id)
    rintro v G6 ⟨rfl, hG6⟩
    have f6 : cf (fun _ => False) G9 G6 := by
      rw [hG6]
      exact ((((f1.sR (Or.inr hx)).sR (Or.inr hx)).sR (Or.inr hx)).sI (Or.inr hx)).sI (Or.inr hx)
    have x0 : hp_r G6 x 0 = some (nm i) := by rw [hG6, hp_r_sI, hp_r_sI, hp_r_sR, if_pos rfl, if_neg (by decide), hp_r_sR, if_pos rfl, if_pos rfl]
    have x1 : hp_r G6 x 1 = tyO := by rw [hG6, hp_r_sI, hp_r_sI, hp_r_sR, if_pos rfl, if_pos rfl]
    have x2 : hp_i G6 x 2 = kd := by rw [hG6, hp_i_sI, if_pos rfl, if_neg (by decide), hp_i_sI, if_pos rfl, if_pos rfl]
    have x3 : hp_i G6 x 3 = nI (b + i - pr_a S') := by rw [hG6, hp_i_sI, if_pos rfl, if_pos rfl]
    have x50 : hp_r G6 x 5 = none := by rw [hG6, hp_r_sI, hp_r_sI, hp_r_sR, if_pos rfl, if_neg (by decide), hp_r_sR, if_pos rfl, if_neg (by decide), hp_r_sR, if_pos rfl, if_neg (by decide), hp_r_nw, if_pos rfl]
    have kx6 : hp_kd G6 x = 6 := by rw [hG6]; exact kx1
    clear hG6
    have f3 : cf (fun _ => False) G9 (hp_sR G6 x 4 (some bb)) := f6.sR (Or.inr hx)
    have x40 : hp_r (hp_sR G6 x 4 (some bb)) x 0 = some (nm i) := by rw [hp_r_sR, if_pos rfl, if_neg (by decide)]; exact x0
    have x41 : hp_r (hp_sR G6 x 4 (some bb)) x 1 = tyO := by rw [hp_r_sR, if_pos rfl, if_neg (by decide)]; exact x1
    have x44 : hp_r (hp_sR G6 x 4 (some bb)) x 4 = some bb := by rw [hp_r_sR, if_pos rfl, if_pos rfl]
    have x45 : hp_r (hp_sR G6 x 4 (some bb)) x 5 = none := by rw [hp_r_sR, if_pos rfl, if_neg (by decide)]; exact x50
    have x42 : hp_i (hp_sR G6 x 4 (some bb)) x 2 = kd := x2
    have x43 : hp_i (hp_sR G6 x 4 (some bb)) x 3 = nI (b + i - pr_a S') := x3
    have kx3 : hp_kd (hp_sR G6 x 4 (some bb)) x = 6 := kx6
    have n73 : al q.1.1 (hp_sR G6 x 4 (some bb)) Lv (b + i - pr_a S') cv (fun j => some (qV q (pr_a S' + j))) := n7.fr f3 (fun u => u) (fun _ _ _ u => u)
    have hlc := n7.2.1.1
    have hbw := al_bw hlc
    refine blX3_group_243 rfl kx6 hA (f6.k kR (by decide)) (by rw [f3.r (by rw [kR]; decide) (fun u => u)]; exact y3) (f3.k y1 (by decide)) (by rw [f3.r (by rw [y1]; decide) (fun u => u)]; exact n1) (f3.k kLv (by decide)) (J5_add_C (d := 6) (x := some x) n73 (c1.2.1.fr f3) (fun y hy => by rw [← Option.some.inj hy, kx3]; decide) (by omega) (Nat.le_refl 6)) (by show 6 + 1 ≤ D; omega) (by omega) ?_ (fun _ _ _ u => absurd u id)
    generalize hp_sR G6 x 4 (some bb) = G3 at f3 x40 x41 x42 x43 x44 x45 kx3 n73
    rintro v G4 ⟨rfl, a1, a2, a3⟩
    -- what the list's growth changed
    have w4 : ∀ y, hp_kd G9 y ≠ 0 → al_w G3 Lv (b + i - pr_a S') cv y → al_o G9 Lv y := by
      rintro y hy (u | ⟨u1, u2, u3, u4⟩)
      · exact Or.inl u
      · exact Or.inr ⟨u3.cg (f3.lg hy).symm, by rw [← f3.kd hy]; exact u4⟩
    have f4 : cf (al_o G9 Lv) G9 G4 := (f3.mono (own2 := al_o G9 Lv) (fun _ _ u => u.elim)).tr2 a2 (fun y hy u => w4 y hy u)
    have nx4 : ¬ al_w G3 Lv (b + i - pr_a S') cv x := by
      rintro (u | ⟨-, -, -, u⟩)
      · rw [u, f3.k kLv (by decide)] at kx3; cases kx3
      · rw [kx3] at u; cases u
    have kx3' : hp_kd G3 x ≠ 0 := by rw [kx3]; decide
    have kx4 : hp_kd G4 x = 6 := a2.k kx3 (by decide)
    have nof : ∀ {y : Nat}, al_o G9 Lv y → hp_kd G9 y = 22 ∨ hp_kd G9 y = 32 := by
      rintro y (u | ⟨-, u⟩)
      · rw [u]; exact Or.inl kLv
      · exact Or.inr u
    have nR4 : ¬ al_o G9 Lv q.1.2.1 := fun u => by have := nof u; omega
    have nn4 : ¬ al_o G9 Lv (qn q) := fun u => by have := nof u; omega
    have st4 : ∀ a l, st q.1.1 G9 a l → st q.1.1 G4 a l := fun a l u => st_cf f4 (fun y hy => by have := nof hy; constructor <;> omega) u
    have sc4 : ∀ a l, hp_sc G9 a l → hp_sc G4 a l := (rx_of (z := q.1) f4 (fun y hy => by have := nof hy; constructor <;> omega)).2.1
    have hm4 : hm q.1.1 G4 hv' (b + i - pr_a S') (mpf (nlv (rz_T q.1) S') (pr_a S') (b + i) (qV q)) := c5.fr f4 st4 (fun u => by have := nof u; omega) (fun y _ hk u => by have := nof u; omega)
    have key : nlv (rz_T q.1) S' (b + i) = nlv (rz_T q.1) S' (b + i) := rfl
    have mnone : mpf (nlv (rz_T q.1) S') (pr_a S') (b + i) (qV q) (nlv (rz_T q.1) S' (b + i)) = none := by
      unfold mpf
      have e := lx_find_nf (P := fun j => decide (nlv (rz_T q.1) S' j = nlv (rz_T q.1) S' (b + i))) (a := pr_a S') (b := b + i) (by omega) (fun j h1 h2 => decide_eq_false (hN.2.2.2 j (b + i) h1 h2 (by omega) (by omega)))
      rw [e, if_neg (by omega)]
    refine blX3_group_264 (f4.k kR (by decide)) (by rw [f4.r (by rw [kR]; decide) nR4]; exact y3) (f4.k y1 (by decide)) rfl kx4 (by rw [f4.r (by rw [y1]; decide) nn4]; exact n2) hm4.1.1 (by rw [a2.r kx3' nx4, x40]; exact J7_put_C (d := 28) hm4 (by omega) (st4 _ _ hst0) (by rw [kx4]; decide) (by rw [ew]; exact hcmp) (Nat.le_refl 28)) (by show 28 + 1 ≤ D; omega) (by omega) ?_ (fun _ _ _ u => absurd u id)
    rintro v G5 ⟨rfl, p1, p2, p3, p4⟩
    rw [if_pos mnone] at p1
    refine blX3_group_282 ?_
    rw [nI_1]
    -- the whole step's frame
    have w5 : ∀ y, hp_kd G9 y ≠ 0 → (hm_o G4 hv' y ∨ y = nm i) → gow G9 Lv hv' y ∨ y = nm i := by
      rintro y hy ((u | ⟨u1, u2⟩) | u)
      · exact Or.inl (Or.inr (Or.inl u))
      · exact Or.inl (Or.inr (Or.inr ⟨u1.cg (f4.lg hy).symm, by rw [← f4.kd hy]; exact u2⟩))
      · exact Or.inr u
    have f5 : cf (fun y => gow G9 Lv hv' y ∨ y = nm i) G9 G5 := (f4.mono (own2 := fun y => gow G9 Lv hv' y ∨ y = nm i) (fun y _ u => Or.inl (Or.inl u))).tr2 p2 w5
    have sc5 : ∀ a l, hp_sc G9 a l → hp_sc G5 a l := fun a l u => p3 a l (sc4 a l u)
    have st5 : ∀ a l, st q.1.1 G9 a l → st q.1.1 G5 a l := fun a l u => p4 a l (st4 a l u)
    have kof : ∀ y, (gow G9 Lv hv' y ∨ y = nm i) → hp_kd G9 y = 22 ∨ hp_kd G9 y = 32 ∨ hp_kd G9 y = 23 ∨ hp_kd G9 y = 35 ∨ hp_kd G9 y = 24 ∨ hp_kd G9 y = 25 ∨ hp_kd G9 y = 26 := by
      rintro y (u | u)
      · have := gow.kd kLv khv u; omega
      · rw [u, knm]; omega
    have rx5 : rx q.1 (gow G9 Lv hv') G9 G5 := ⟨f5.mono (fun y _ u => u.elim Or.inl (fun v => Or.inr (Or.inr (Or.inr (by rw [v]; exact knm))))), sc5, st5⟩
    have ehN : hN' = hm9 := by
      have := f01 9 (by omega)
      rw [eR] at c2 this
      rw [c2, hhN] at this
      exact Option.some.inj this
    have kN9 : hp_kd G9 hN' = 23 := c3.1.1
    have nhv : hN' ≠ hv' := fun u => hhN2 (by rw [← ehN, u]; exact n4)
    obtain ⟨z1, z2, z3, z4, z5, z6, z7, z8⟩ := henv.parts kR f5 st5 sc5 (fun y u => by have := kof y u; omega) (fun hN3 hN4 => by
      rw [c2] at hN4
      rw [← Option.some.inj hN4]
      refine ⟨?_, fun y hy hk => ?_⟩
      · rintro ((u | (u | ⟨u1, u2⟩)) | u)
        · rcases u with u | ⟨-, u⟩
          · rw [u, kLv] at kN9; cases kN9
          · rw [kN9] at u; cases u
        · exact nhv u
        · rw [kN9] at u2; omega
        · rw [u, knm] at kN9; cases kN9
      · rintro ((u | u) | u)
        · have := nof u; omega
        · rcases u with u | ⟨u, -⟩
          · rw [u, khv] at hk; omega
          · exact nhv (hy.uq u)
        · rw [u, knm] at hk; omega)
    have kx5 : hp_kd G5 x = 6 := p2.k kx4 (by decide)
    have nx5 : ¬ (hm_o G4 hv' x ∨ x = nm i) := by
      rintro ((u | ⟨-, u⟩) | u)
      · rw [u, hm4.1.1] at kx4; cases kx4
      · rw [kx4] at u; omega
      · rw [u, f4.k knm (by decide)] at kx4; cases kx4
    have kx4' : hp_kd G4 x ≠ 0 := by rw [kx4]; decide
    have x5r : hp_r G5 x = hp_r G3 x := (p2.r kx4' nx5).trans (a2.r kx3' nx4)
    have x5i : hp_i G5 x = hp_i G3 x := (p2.i kx4' nx5).trans (a2.i kx3' nx4)
    have nbb : ¬ (gow G9 Lv hv' bb ∨ bb = nm i) := fun u => by have := kof _ u; omega
    have kb0 : hp_kd G9 bb ≠ 0 := by rw [kbb]; decide
    have eVt : qV (qW q (b + i) x kd) (b + i) = x := by show hp_u1 (qV q) (b + i) x (b + i) = x; unfold hp_u1; rw [if_pos rfl]
    have eVl : ∀ j, j < b + i → qV (qW q (b + i) x kd) j = qV q j := fun j hj => by show hp_u1 (qV q) (b + i) x j = _; unfold hp_u1; rw [if_neg (by omega)]
    have hckv : ∀ v, v < b + i → md_ck S' (pr_a S') (v + 1) := fun v hv => v9.sub (by omega)
    have nRx : ¬ (gow G9 Lv hv' q.1.2.1 ∨ q.1.2.1 = nm i) := fun u => by have := kof _ u; omega
    rw [ew, eR]
    have nfr : ∀ j, pr_a S' ≤ j → j < b + (i + 1) → hp_kd G00 (qV (qW q (b + i) x kd) j) = 0 := fun j h1 h2 => by
      by_cases u : j = b + i
      · rw [u, eVt]; exact f00.1.fresh hx
      · have h3 : j < b + i := Nat.lt_of_le_of_ne (Nat.le_of_lt_succ h2) u
        rw [eVl j h3]; exact n5.2 j h1 h3
    refine ih (i + 1) (qW q (b + i) x kd) G5 (al_c (b + i - pr_a S') cv) Lv hv' (by omega) ⟨⟨hq.W (by omega), fun j h1 h2 => ?_⟩, ?_, ⟨z1, z2, z3, ⟨hv', ?_, ?_⟩, z4, fun v u1 u2 => ?_⟩, ⟨?_, ?_, ⟨n3, n4, n5.1, nfr⟩, ?_, ?_⟩, ⟨?_, hne⟩, ⟨f00.tr rx5 (fun y hy u => absurd (gow.new hsn f00.1 n3 n4 u) hy), fun j hj => ?_⟩, ⟨fs0.tr rx5 (fun y hy u => gow.back fs0.1 hy u), z6.trans fs1, z7.trans fs2⟩, f5.k kbb (by decide), ?_⟩ _ (by omega) hW
    · show hp_u1 (qK q) (b + i) kd j = kd
      unfold hp_u1
      by_cases u : j = b + i
      · rw [if_pos u]
      · rw [if_neg u]; exact hqk j h1 (by omega)
    · exact hrat.fr f5 st5 nRx (fun u => by have := kof _ u; have := hrat.1.2.2.1.1; omega)
    · show hp_r G5 (qn q) 2 = some hv'
      rw [z6]; exact n2
    · show hm q.1.1 G5 hv' (b + (i + 1) - pr_a S') (mpf (nlv (rz_T q.1) S') (pr_a S') (b + i + 1) (hp_u1 (qV q) (b + i) x))
      rw [mpf_mu (by omega) (fun j h1 h2 => hN.2.2.2 j (b + i) h1 h2 (by omega) (by omega)), ix1 (i := i) hab]
      exact p1
    · by_cases u : v = b + i
      · subst u
        unfold vx
        rw [eVt]
        refine ⟨⟨kx5, hA⟩, ⟨nm i, by rw [x5r]; exact x40, st5 _ _ hst0⟩, ?_, ?_, ?_, bb, by rw [x5r]; exact x44, ?_⟩
        · rw [x5r, x41, hty (b + i) (by omega) (by omega)]
          show ty q0.1.1 _ = ty q.1.1 _
          rw [ew]
        · rw [x5i, x42]
          show kd = hp_u1 (qK q) (b + i) kd (b + i)
          unfold hp_u1
          rw [if_pos rfl]
        · exact ⟨by rw [x5i]; exact x43, by rw [x5r]; exact x45⟩
        · rw [hdp (b + i) (by omega) (by omega)]
          rcases hbt with ⟨g1, g2, g3⟩ | ⟨k', s, g1, g2, g3, g4, g5, g6, g7, g8⟩
          · exact Or.inl ⟨g3 _ (by omega) (by omega), g1, g2⟩
          · refine Or.inr ⟨k', s, g1, g2, g4 _ (by omega) (by omega), f5.k kbb (by decide), ?_, by rw [f5.i kb0 nbb]; exact g6, by rw [f5.i kb0 nbb]; exact g7, g8⟩
            rw [f5.r kb0 nbb, eVl _ (by omega)]
            exact g5
      · exact (z5 v u1 (by omega)).W (hckv v (by omega)) u1 (by omega)
    · show hp_r G5 (qn q) 1 = some Lv
      rw [z6]; exact n1
    · show hp_r G5 (qn q) 2 = some hv'
      rw [z6]; exact n2
    · exact n6.cg (f5.lg (by rw [kLv]; decide))
    · show al q.1.1 G5 Lv (b + (i + 1) - pr_a S') (al_c (b + i - pr_a S') cv) (fun j => some (qV (qW q (b + i) x kd) (pr_a S' + j)))
      rw [ix1 (i := i) hab]
      refine (a1.fr p2 ?_ (fun y _ hy => ?_)).cg (fun j hj => ?_)
      · have k4 := a1.1.1
        rintro ((u | ⟨-, u⟩) | u)
        · rw [u, hm4.1.1] at k4; cases k4
        · rw [k4] at u; omega
        · rw [u, f4.k knm (by decide)] at k4; cases k4
      · rintro ((u | ⟨-, u⟩) | u)
        · rw [u, hm4.1.1] at hy; cases hy
        · rw [hy] at u; omega
        · rw [u, f4.k knm (by decide)] at hy; cases hy
      · show some (qV (qW q (b + i) x kd) (pr_a S' + j)) = if j = b + i - pr_a S' then some x else some (qV q (pr_a S' + j))
        by_cases u : j = b + i - pr_a S'
        · rw [if_pos u, u, ix2 (i := i) hab, eVt]
        · rw [if_neg u, eVl _ (ix3 hab hj u)]
    · refine hN.fr f5 st5 ?_ (fun y hy1 hy => ?_)
      · rintro ((u | u) | u)
        · rcases u with u | ⟨-, u⟩
          · exact hne u
          · rw [kLN] at u; cases u
        · rcases u with u | ⟨-, u⟩
          · rw [u, khv] at kLN; cases kLN
          · rw [kLN] at u; omega
        · rw [u, knm] at kLN; cases kLN
      · rintro ((u | u) | u)
        · rcases u with u | ⟨u, -⟩
          · rw [u, kLv] at hy; cases hy
          · exact hne (hy1.uq u)
        · rcases u with u | ⟨-, u⟩
          · rw [u, khv] at hy; cases hy
          · rw [hy] at u; omega
        · rw [u, knm] at hy; cases hy
    · show hp_r G5 q.1.2.1 j = _
      rw [z8]
      exact f01 j hj
    · rcases hbt with g | ⟨k', s, g1, g2, g3, g4, g5, g6, g7, g8⟩
      · exact Or.inl g
      · refine Or.inr ⟨k', s, g1, g2, g3, g4, ?_, by rw [f5.i kb0 nbb]; exact g6, by rw [f5.i kb0 nbb]; exact g7, g8⟩
        rw [f5.r kb0 nbb, eVl _ (by omega)]
        exact g5
end
