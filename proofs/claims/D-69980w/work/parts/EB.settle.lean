/-! THE COMPONENT's finish: settle -/
set_option maxRecDepth 100000
section
variable {q : PZ} {S : MS} {X : Nat → Nat} {lo hi n a : Nat} {G G0 G' : GH} {C F : Nat → Int32}
/-- full clocks F: what stands around an expression -/
def stO (S : MS) (F : Nat → Int32) (y : Nat) : Int32 := if S.2 32 y = 26 then jc_v S ((S.2 33 y).toNatClampNeg / 2) else F y
def stF (S : MS) (C F : Nat → Int32) (lo hi : Nat) : Prop := ∀ y, lo ≤ y → y < hi → ∀ x ∈ kls S y, F x = if C x = -2 then stO S F y else C x
theorem stF_ex {p b : Nat} {co : Int32} (hpt : pt S p (b + 1)) (hpb : p ≤ b) : ∃ F : Nat → Int32, F b = (if C b = -2 then co else C b) ∧ stF S C F p (b + 1) := by
  obtain ⟨g1, g2, -, -, g4⟩ := ar_e_val (a := pr_a S) (p := p) (b := b) (b + 1 - p) (ml_sa (ml_saA S 36 C) 43 b (if C b = -2 then co else C b)) (by omega) (hpt.cg (by funext j; rw [ml_sa_a, if_neg (by decide), ml_saA_a, if_neg (by decide)]) (by funext j; rw [ml_sa_a, if_neg (by decide), ml_saA_a, if_neg (by decide)])) (fun e a1 a2 => by omega)
  generalize hS2 : ar_e (pr_a S) p (b + 1 - p) (ml_sa (ml_saA S 36 C) 43 b (if C b = -2 then co else C b)) = S2 at g1 g2 g4
  have eq : ∀ q, q ≠ 43 → q ≠ 44 → q ≠ 36 → S2.2 q = S.2 q := fun q u1 u2 u3 => by
    rw [g4 q u1 u2]
    funext j
    rw [ml_sa_a, if_neg u1, ml_saA_a, if_neg u3]
  have e36 : ∀ x, S2.2 36 x = C x := fun x => by rw [g4 36 (by decide) (by decide), ml_sa_a, if_neg (by decide), ml_saA_a, if_pos rfl]
  have ek : ∀ y, kls S2 y = kls S y := fun y => by unfold kls; rw [eq 35 (by decide) (by decide) (by decide), eq 34 (by decide) (by decide) (by decide)]
  refine ⟨S2.2 43, by rw [g2, ml_sa_a, if_pos rfl, if_pos rfl], fun y y1 y2 x hx => ?_⟩
  rw [← ek] at hx
  obtain ⟨i, hi, e⟩ := List.mem_iff_getElem.1 hx
  have := (g1 y y1 (by omega) i x (by rw [List.getElem?_eq_getElem hi, e])).1
  rw [this, e36]
  unfold ar_o stO jc_v
  rw [eq 32 (by decide) (by decide) (by decide), eq 33 (by decide) (by decide) (by decide), eq 22 (by decide) (by decide) (by decide)]
theorem jc_v_ne {v : Nat} (hV : pe_V n S) (hv : pr_a S + v < pr_v S) : jc_v S v ≠ -2 := by
  obtain ⟨-, -, -, -, -, -, -, -, ck⟩ := hV.N
  unfold jc_v
  rcases ck (pr_a S + v) (Nat.le_add_right _ _) hv with w | ⟨w, w1, w2, -⟩
  · rw [w]; decide
  · rw [w2]; exact (nI_n2 w1).1
/-- settle's end -/
def slP (q : PZ) (S : MS) (X : Nat → Nat) (F : Nat → Int32) (e : Nat) (G : GH) (v : Option WV) (G' : GH) : Prop := v = none ∧ tf X (lw (S.2 34) e) (e + 1) G G' ∧ ∀ x, lw (S.2 34) e ≤ x → x < e + 1 → clk q S G' X x (F x)
/-- before it -/
def slH (q : PZ) (S : MS) (X : Nat → Nat) (C F : Nat → Int32) (e : Nat) (G : GH) (bo : Nat) (co : Int32) : Prop := (∀ x, lw (S.2 34) e ≤ x → x < e + 1 → clk q S G X x (C x)) ∧ bc q (pr_a S) G bo co ∧ F e = if C e = -2 then co else C e
/-- what the clocks are -/
def slC (S : MS) (C F : Nat → Int32) (lo hi : Nat) : Prop := (∀ e, lo ≤ e → e < hi → jc S C e (kls S e) = .inr (C e)) ∧ stF S C F lo hi
def slIH (q : PZ) (S : MS) (X : Nat → Nat) (C F : Nat → Int32) (lo hi D : Nat) (ks : List Nat) : Prop := ∀ k ∈ ks, ∀ G bo co, tw q lo hi S X G → slH q S X C F k G bo co → wk_C q.1.1 (vt_settle (hp_kd G (X k))) D 0 [vR (some (X k)), vR (some bo)] G (slP q S X F k G) (fun _ _ _ => False)
theorem X18_settle_C {e d bo : Nat} {co : Int32} (hw : tw q lo hi S X G) (hpw : pw S lo hi) (hh : hi ≤ 5000) (h1 : lo ≤ e) (h2 : e < hi) (hk : S.2 32 e = 0 ∨ S.2 32 e = 1) (h : slH q S X C F e G bo co) : wk_C q.1.1 mX18_settle d 0 [vR (some (X e)), vR (some bo)] G (slP q S X F e G) (fun _ _ _ => False) := by
  obtain ⟨x1, -, x3, -⟩ := (hw.2.1 e h1 h2).1
  obtain ⟨y1, y2, y3⟩ := (hpw e h1 h2).2.kl (by omega)
  have e0 : kls S e = [] := by
    have : (kls S e).length = 0 := by
      unfold pw_s at y3
      rcases hk with u | u <;> rw [u] at y3
      · rcases y3 with ⟨-, w⟩ | ⟨w, -⟩ | ⟨w, -⟩ | ⟨w, -⟩ | ⟨w, -⟩ | ⟨w, -⟩ | ⟨w, -⟩ | ⟨w, -⟩ <;> first | exact w | exact absurd w (by decide)
      · rcases y3 with ⟨w, -⟩ | ⟨-, w, -⟩ | ⟨w, -⟩ | ⟨w, -⟩ | ⟨w, -⟩ | ⟨w, -⟩ | ⟨w, -⟩ | ⟨w, -⟩ <;> first | exact w | exact absurd w (by decide)
    exact List.length_eq_zero_iff.1 this
  rw [e0] at y2
  have el : lw (S.2 34) e = e := y2
  have kx : hp_kd G (X e) = 13 := by rw [x1.1]; unfold xk; rw [if_pos hk]
  obtain ⟨g1, g2, g3⟩ := h
  rw [el] at g1
  obtain ⟨b, b1, b2⟩ := g1 e (Nat.le_refl _) (Nat.lt_succ_self e)
  have ha := b2.any hw.1.2
  refine wk_C_of (by decide) rfl (Nat.le_of_ble_eq_true rfl) ?_
  have one : ∀ (G' : GH), tf X e (e + 1) G G' → clk q S G' X e (F e) → slP q S X F e G none G' := fun G' u1 u2 => ⟨rfl, by rw [el]; exact u1, fun x v1 v2 => by rw [el] at v1; rw [show x = e by omega]; exact u2⟩
  refine blX18_settle_0 kx (fun u => ?_) (fun u => ?_)
  · rw [b1] at u
    have nc : C e ≠ -2 := fun w => u (ha.2 w)
    exact blX18_settle_15 (one _ tf.rf ⟨b, b1, by rw [g3, if_neg nc]; exact b2⟩)
  · rw [b1] at u
    have cc := ha.1 u
    have f1 : tf X e (e + 1) G (hp_sR G (X e) 1 (some bo)) := tf.rf.wr (Nat.le_refl _) (Nat.lt_succ_self e) (by decide)
    refine blX18_settle_10 kx x1.2 (blX18_settle_15 (one _ f1 ⟨bo, by rw [hp_r_sR, if_pos rfl, if_pos rfl], ?_⟩))
    rw [g3, if_pos cc]
    exact g2.fr f1.1 (by rintro y ⟨x, w1, w2, rfl⟩; have := hw.k (e := x) (by omega) (by omega); omega)
theorem X19_settle_C {e d bo : Nat} {co : Int32} (hpw : pw S lo hi) (hh : hi ≤ 5000) (hJ : pj_V n S) (h1 : lo ≤ e) (h2 : e < hi) (hk : S.2 32 e = 2) (hC : jc S C e (kls S e) = .inr (C e)) (h : slH q S X C F e G bo co) : wk_C q.1.1 mX19_settle d 0 [vR (some (X e)), vR (some bo)] G (slP q S X F e G) (fun _ _ _ => False) := by
  obtain ⟨y1, y2, y3⟩ := (hpw e h1 h2).2.kl (by omega)
  obtain ⟨e0, v, w1, w2⟩ : (kls S e).length = 0 ∧ ∃ v, pr_a S + v < pr_v S ∧ S.2 33 e = nI v := by
    unfold pw_s at y3
    rw [hk] at y3
    rcases y3 with ⟨w, -⟩ | ⟨w, -⟩ | ⟨-, w⟩ | ⟨w, -⟩ | ⟨w, -⟩ | ⟨w, -⟩ | ⟨w, -⟩ | ⟨w, -⟩ <;> first | exact w | exact absurd w (by decide)
  have hv6 := hJ.1.N.2.2.2.1
  have e0 : kls S e = [] := List.length_eq_zero_iff.1 e0
  rw [e0] at y2
  have el : lw (S.2 34) e = e := y2
  obtain ⟨g1, g2, g3⟩ := h
  have nc : C e ≠ -2 := by
    unfold jc at hC
    rw [if_pos hk, w2, nI_clamp (by omega)] at hC
    rw [← Sum.inr.inj hC]
    exact jc_v_ne hJ.1 w1
  refine wk_C_of (by decide) rfl (Nat.le_of_ble_eq_true rfl) ?_
  refine wk_sub [] trivial ?_
  refine blX19_settle_0 ⟨rfl, tf.rf, fun x u1 u2 => ?_⟩
  rw [el] at u1
  rw [show x = e by omega, g3, if_neg nc]
  exact g1 e (by omega) (by omega)
theorem X12_settle_C {e d D bo : Nat} {co : Int32} (hw0 : tw q lo hi S X G) (hpw : pw S lo hi) (hh : hi ≤ 5000) (h1 : lo ≤ e) (h2 : e < hi) (h3 : 3 ≤ S.2 32 e) (hk : S.2 32 e ≠ 26) (hst : stF S C F lo hi) (hD : D + 1 ≤ d) (hd : 3 ≤ d) (ih : slIH q S X C F lo hi D (kls S e)) (h : slH q S X C F e G bo co) : wk_C q.1.1 mX12_settle d 0 [vR (some (X e)), vR (some bo)] G (slP q S X F e G) (fun _ _ _ => False) := by
  obtain ⟨hlo, y0⟩ := hpw e h1 h2
  obtain ⟨y1, y2, y3⟩ := y0.kl (by omega)
  have hlen := pw_k_len _ _ y2
  have hle := (pw_k_mem _ _ y2).1
  have hA := (hw0.2.1 e h1 h2).1.1.2
  have kX : 15 ≤ hp_kd G (X e) ∧ hp_kd G (X e) ≤ 21 := by
    have r := hw0.k h1 h2
    have : hp_kd G (X e) = xk (S.2 32 e) := (hw0.2.1 e h1 h2).1.1.1
    have h0 : ¬ (S.2 32 e = 0 ∨ S.2 32 e = 1) := by rintro (u | u) <;> rw [u] at h3 <;> exact absurd h3 (by decide)
    have h02 : ¬ S.2 32 e = 2 := fun u => by rw [u] at h3; exact absurd h3 (by decide)
    refine ⟨?_, r.2⟩
    rw [this]
    unfold xk
    rw [if_neg h0, if_neg h02]
    repeat' split
    all_goals decide
  have kX0 : hp_kd G (X e) ≠ 0 := by omega
  obtain ⟨g1, g2, g3⟩ := h
  have nk : ∀ y, (∃ x, lw (S.2 34) e ≤ x ∧ x < e + 1 ∧ y = X x) → ¬ hp_kd G y = 5 := by
    rintro y ⟨x, u1, u2, rfl⟩
    have := hw0.k (e := x) (by omega) (by omega)
    omega
  refine wk_C_of (by decide) rfl (Nat.le_of_ble_eq_true rfl) ?_
  -- the parts
  have loop : ∀ (rest ds : List Nat) (l : Nat) (G1 : GH), ds ++ rest = kls S e → pw_k (lw (S.2 34)) l rest e → lw (S.2 34) e ≤ l → tf X (lw (S.2 34) e) (e + 1) G G1 → (∀ x, lw (S.2 34) e ≤ x → x < l → clk q S G1 X x (F x)) → (∀ x, l ≤ x → x < e → clk q S G1 X x (C x)) → clk q S G1 X e (F e) →
      wk_V q.1.1 mX12_settle (d, 0, slP q S X F e G, (fun _ _ _ => False), hp_cs G, hp_ss G) 17 [(0, vR (some (X e))), (2, vI (nI ds.length))] [] G1 0 := by
    intro rest
    induction rest with
    | nil =>
      intro ds l G1 hds hpk hl hf hd1 hd2 hd3
      rw [List.append_nil] at hds
      have el : l = e := hpk
      subst hds
      have hw1 := hw0.wt hf hlo (by omega)
      obtain ⟨L, c, r3, r4, hal⟩ := hw1.kids hpw hh h1 h2 h3
      have kX1 : 15 ≤ hp_kd G1 (X e) ∧ hp_kd G1 (X e) ≤ 21 := by rw [hf.1.kd kX0]; exact kX
      refine blX12_settle_17 kX1 r3 hal.1.1 (J5_size_C (d := 0) hal) (by show 0 + 1 ≤ d; omega) (Nat.zero_le _) ?_ (fun _ _ _ u => absurd u id)
      rintro v G9 ⟨rfl, rfl⟩
      refine blX12_settle_25 (fun _ => blX12_settle_52 ⟨rfl, hf, fun x u1 u2 => ?_⟩) (fun u => absurd (nI_le (Nat.le_refl _) (by omega)) u)
      by_cases w : x = e
      · rw [w]; exact hd3
      · exact hd1 x u1 (by omega)
    | cons k rest ihr =>
      intro ds l G1 hds hpk hl hf hd1 hd2 hd3
      obtain ⟨p1, p2, p3, p4⟩ := hpk
      have hw1 := hw0.wt hf hlo (by omega)
      obtain ⟨L, c, r3, r4, hal⟩ := hw1.kids hpw hh h1 h2 h3
      have kX1 : 15 ≤ hp_kd G1 (X e) ∧ hp_kd G1 (X e) ≤ 21 := by rw [hf.1.kd kX0]; exact kX
      have hll : ds.length < (kls S e).length := by rw [← hds, List.length_append, List.length_cons]; omega
      have hgk : (kls S e).getD ds.length 0 = k := by rw [← hds, List.getD_eq_getElem?_getD, List.getElem?_append_right (Nat.le_refl _), Nat.sub_self]; rfl
      refine blX12_settle_17 kX1 r3 hal.1.1 (J5_size_C (d := 0) hal) (by show 0 + 1 ≤ d; omega) (Nat.zero_le _) ?_ (fun _ _ _ u => absurd u id)
      rintro v G9 ⟨rfl, rfl⟩
      refine blX12_settle_25 (fun u => absurd ((nI_leI (by omega) (by omega)).1 u) (by omega)) (fun _ => ?_)
      refine blX12_settle_28 kX1 r3 hal.1.1 (J5_get_C (d := 2) (i := ds.length) hal hll (Nat.le_refl 2)) (by show 2 + 1 ≤ d; omega) (Nat.zero_le _) ?_ (fun _ _ _ u => absurd u id)
      rintro v G9 ⟨rfl, rfl⟩
      rw [hgk]
      have kk := hw1.k (e := k) (by omega) (by omega)
      have hmem : k ∈ kls S e := by rw [← hds]; simp
      obtain ⟨be, be1, be2⟩ := hd3
      have hF := hst e h1 h2 k hmem
      unfold stO at hF
      rw [if_neg hk] at hF
      refine vkX12_settle_36 (hcE kk) kX1 rfl kk (by rw [be1]; exact ih k hmem _ be (F e) hw1 ⟨fun x u1 u2 => hd2 x (by omega) (by omega), be2, hF⟩) (by show D + 1 ≤ d; omega) (Nat.zero_le _) ?_ (fun _ _ _ u => absurd u id)
      rintro v G2 ⟨rfl, s2, s3⟩
      rw [p1] at s2 s3
      refine blX12_settle_46 ?_
      rw [nI_1, show ds.length + 1 = (ds ++ [k]).length by rw [List.length_append]; rfl]
      refine ihr _ (k + 1) _ (by rw [← hds]; simp) p4 (by omega) (hf.tr s2 (by omega) (by omega)) (fun x u1 u2 => ?_) (fun x u1 u2 => (hd2 x (by omega) u2).wt hw1 ⟨by omega, by omega⟩ s2 (by omega) (by omega) (Or.inr (by omega))) (clk.wt (c := F e) ⟨be, be1, be2⟩ hw1 ⟨h1, h2⟩ s2 (by omega) (by omega) (Or.inr (by omega)))
      rcases Nat.lt_or_ge x l with w | w
      · exact (hd1 x u1 w).wt hw1 ⟨by omega, by omega⟩ s2 (by omega) (by omega) (Or.inl w)
      · exact s3 x w u2
  obtain ⟨b, b1, b2⟩ := g1 e hle (Nat.lt_succ_self e)
  have ha := b2.any hw0.1.2
  refine blX12_settle_0 kX (fun u => ?_) (fun u => ?_)
  · rw [b1] at u
    have nc : C e ≠ -2 := fun w => u (ha.2 w)
    exact blX12_settle_15 (loop (kls S e) [] (lw (S.2 34) e) G rfl y2 (Nat.le_refl _) tf.rf (fun x u1 u2 => by omega) (fun x u1 u2 => g1 x u1 (by omega)) ⟨b, b1, by rw [g3, if_neg nc]; exact b2⟩)
  · rw [b1] at u
    have cc := ha.1 u
    have f1 : tf X e (e + 1) G (hp_sR G (X e) 1 (some bo)) := tf.rf.wr (Nat.le_refl _) (Nat.lt_succ_self e) (by decide)
    refine blX12_settle_10 kX hA (blX12_settle_15 (loop (kls S e) [] (lw (S.2 34) e) _ rfl y2 (Nat.le_refl _) (f1.mono hle (Nat.le_refl _)) (fun x u1 u2 => by omega) (fun x u1 u2 => (g1 x u1 (by omega)).wt hw0 ⟨by omega, by omega⟩ f1 h1 (by omega) (Or.inl u2)) ⟨bo, by rw [hp_r_sR, if_pos rfl, if_pos rfl], ?_⟩))
    rw [g3, if_pos cc]
    exact g2.fr f1.1 (fun y ⟨x, w1, w2, w3⟩ => nk y ⟨x, by omega, w2, w3⟩)
theorem X20_settle_C {e d D bo : Nat} {co : Int32} (hw0 : tw q lo hi S X G) (hpw : pw S lo hi) (hh : hi ≤ 5000) (hJ : pj_V n S) (h1 : lo ≤ e) (h2 : e < hi) (hk : S.2 32 e = 26) (hC : jc S C e (kls S e) = .inr (C e)) (hst : stF S C F lo hi) (hD : D + 1 ≤ d) (hd : 3 ≤ d) (ih : slIH q S X C F lo hi D (kls S e)) (h : slH q S X C F e G bo co) : wk_C q.1.1 mX20_settle d 0 [vR (some (X e)), vR (some bo)] G (slP q S X F e G) (fun _ _ _ => False) := by
  obtain ⟨hlo, y0⟩ := hpw e h1 h2
  obtain ⟨y1, y2, y3⟩ := y0.kl (by omega)
  have hv6 := hJ.1.N.2.2.2.1
  have h3 : 3 ≤ S.2 32 e := by rw [hk]; decide
  obtain ⟨k0, e3⟩ := ls_1 (pw_len_26 hk y3)
  obtain ⟨vv, ss, v1, v2, v3, v4⟩ : ∃ v s, s < 2 ∧ pr_a S + v < pr_v S ∧ S.2 24 (pr_a S + v) ≠ 0 ∧ S.2 33 e = nI (2 * v + s) := by
    unfold pw_s at y3
    rw [hk] at y3
    rcases y3 with ⟨w, -⟩ | ⟨w, -⟩ | ⟨w, -⟩ | ⟨w, -⟩ | ⟨w, -⟩ | ⟨-, w, -⟩ | ⟨-, w, -⟩ | ⟨-, -, w⟩ <;> first | exact w | exact absurd w (by decide)
  rw [e3] at y2
  obtain ⟨q01, q02, q03, q9⟩ := y2
  have q9 : k0 + 1 = e := q9
  have jvv : (S.2 33 e).toNatClampNeg / 2 = vv := by rw [v4, nI_clamp (by omega)]; omega
  obtain ⟨k, t, t1, t2, t3, t4, t5⟩ := (hw0.2.1 e h1 h2).1.2.2.1.2.2.2.2.2.2 hk
  rw [v4] at t3
  have := (nI_eq (by omega) (by omega)).1 t3
  have ek : k = vv := by omega
  subst ek
  obtain ⟨Fq, hF⟩ := hw0.2.2.1 (pr_a S + k) (Nat.le_add_right _ _) v2
  obtain ⟨-, -, -, -, -, bb, b1, b2⟩ := id hF
  obtain ⟨g1, g2, g3⟩ := h
  have nc : C e ≠ -2 := by
    unfold jc at hC
    rw [if_neg (by rw [hk]; decide), if_pos hk] at hC
    split at hC
    · cases hC
    · rw [← Sum.inr.inj hC, v4]
      exact (nI_n2 (by omega)).1
  rw [if_neg nc] at g3
  have hFk := hst e h1 h2 k0 (by rw [e3]; simp)
  unfold stO at hFk
  rw [if_pos hk, jvv] at hFk
  obtain ⟨L0, c0, r30, r40, hal0⟩ := hw0.kids hpw hh h1 h2 h3
  rw [e3] at hal0
  refine wk_C_of (by decide) rfl (Nat.le_of_ble_eq_true rfl) ?_
  refine wk_sub [(0, vR (some (X e)))] ⟨rfl, trivial⟩ ?_
  refine blX20_settle_0 (hw0.kd26 h1 h2 hk) r30 hal0.1.1 (J5_get_C (d := 2) (i := 0) hal0 (by show 0 < 1; decide) (Nat.le_refl 2)) (by show 2 + 1 ≤ d; omega) (Nat.zero_le _) ?_ (fun _ _ _ u => absurd u id)
  rintro v G9 ⟨rfl, rfl⟩
  have kk0 := hw0.k (e := k0) (by omega) (by omega)
  refine vkX20_settle_8 (hcE kk0) (hw0.kd26 h1 h2 hk) t4 hF.1.1 rfl kk0 (by rw [b1]; exact ih k0 (by rw [e3]; simp) _ bb (jc_v S k) hw0 ⟨fun x u1 u2 => g1 x (by omega) (by omega), b2.bc, hFk⟩) (by show D + 1 ≤ d; omega) (Nat.zero_le _) ?_ (fun _ _ _ u => absurd u id)
  rintro v G2 ⟨rfl, s2, s3⟩
  rw [q01, q9] at s2 s3
  refine blX20_settle_21 ⟨rfl, s2.mono (Nat.le_refl _) (by omega), fun x u1 u2 => ?_⟩
  by_cases w : x = e
  · rw [w, g3]
    exact (g1 e (by omega) (Nat.lt_succ_self e)).wt hw0 ⟨h1, h2⟩ s2 hlo (by omega) (Or.inr (Nat.le_refl _))
  · exact s3 x u1 (by omega)
theorem X17_settle_C {e d D bo : Nat} {co : Int32} (hw0 : tw q lo hi S X G) (hpw : pw S lo hi) (hh : hi ≤ 5000) (hJ : pj_V n S) (h1 : lo ≤ e) (h2 : e < hi) (hk : S.2 32 e = 25) (hC : jc S C e (kls S e) = .inr (C e)) (hq : ∀ x, lo ≤ x → x < hi → jq S (C x)) (hst : stF S C F lo hi) (hD : D + 1 ≤ d) (hd : 3 ≤ d) (ih : slIH q S X C F lo hi D (kls S e)) (h : slH q S X C F e G bo co) : wk_C q.1.1 mX17_settle d 0 [vR (some (X e)), vR (some bo)] G (slP q S X F e G) (fun _ _ _ => False) := by
  obtain ⟨hlo, y0⟩ := hpw e h1 h2
  obtain ⟨y1, y2, y3⟩ := y0.kl (by omega)
  have hv6 := hJ.1.N.2.2.2.1
  have h3 : 3 ≤ S.2 32 e := by rw [hk]; decide
  obtain ⟨k0, e3⟩ := ls_1 (pw_len_25 hk y3)
  rw [e3] at y2
  obtain ⟨q01, q02, q03, q9⟩ := y2
  have q9 : k0 + 1 = e := q9
  obtain ⟨g1, g2, g3⟩ := h
  obtain ⟨nk, nc⟩ : ¬ C k0 < 0 ∧ C e ≠ -2 := by
    unfold jc at hC
    rw [if_neg (by rw [hk]; decide), if_neg (by rw [hk]; decide), if_pos hk, e3] at hC
    have hC : (if C k0 < 0 then (.inl 6 : JR) else .inr (jc_v S ((C k0).toNatClampNeg / 2))) = .inr (C e) := hC
    by_cases u : C k0 < 0
    · rw [if_pos u] at hC; cases hC
    · rw [if_neg u] at hC
      obtain ⟨w, w1, w2, w3⟩ := jq_neg (hq k0 (by omega) (by omega)) (Int32.not_lt.1 u)
      refine ⟨u, ?_⟩
      rw [← Sum.inr.inj hC, w2, nI_clamp (by omega)]
      exact jc_v_ne hJ.1 w3
  rw [if_neg nc] at g3
  have nk2 : C k0 ≠ -2 := fun u => nk (by rw [u]; decide)
  have hFk := hst e h1 h2 k0 (by rw [e3]; simp)
  rw [if_neg nk2] at hFk
  obtain ⟨bk, bk1, bk2⟩ := g1 k0 (by omega) (by omega)
  obtain ⟨L0, c0, r30, r40, hal0⟩ := hw0.kids hpw hh h1 h2 h3
  rw [e3] at hal0
  refine wk_C_of (by decide) rfl (Nat.le_of_ble_eq_true rfl) ?_
  refine wk_sub [(0, vR (some (X e)))] ⟨rfl, trivial⟩ ?_
  refine blX17_settle_0 (hw0.kd25 h1 h2 hk) r30 hal0.1.1 (J5_get_C (d := 2) (i := 0) hal0 (by show 0 < 1; decide) (Nat.le_refl 2)) (by show 2 + 1 ≤ d; omega) (Nat.zero_le _) ?_ (fun _ _ _ u => absurd u id)
  rintro v G9 ⟨rfl, rfl⟩
  have kk0 := hw0.k (e := k0) (by omega) (by omega)
  refine blX17_settle_8 (hcE kk0) (hw0.kd25 h1 h2 hk) r30 hal0.1.1 (J5_get_C (d := 2) (i := 0) hal0 (by show 0 < 1; decide) (Nat.le_refl 2)) (by show 2 + 1 ≤ d; omega) (Nat.zero_le _) ?_ (fun _ _ _ u => absurd u id)
  rintro v G8 ⟨rfl, rfl⟩
  refine vkX17_settle_19 (hcE kk0) rfl kk0 rfl kk0 (by have h9 := ih k0 (by rw [e3]; simp) _ bk (C k0) hw0 ⟨fun x u1 u2 => g1 x (by omega) (by omega), bk2, by rw [if_neg nk2]; exact hFk⟩; rw [← bk1] at h9; exact h9) (by show D + 1 ≤ d; omega) (Nat.zero_le _) ?_ (fun _ _ _ u => absurd u id)
  rintro v G2 ⟨rfl, s2, s3⟩
  rw [q01, q9] at s2 s3
  refine blX17_settle_28 ⟨rfl, s2.mono (Nat.le_refl _) (by omega), fun x u1 u2 => ?_⟩
  by_cases w : x = e
  · rw [w, g3]
    exact (g1 e (by omega) (Nat.lt_succ_self e)).wt hw0 ⟨h1, h2⟩ s2 hlo (by omega) (Or.inr (Nat.le_refl _))
  · exact s3 x u1 (by omega)
theorem settle_C (hpw : pw S lo hi) (hh : hi ≤ 5000) (hJ : pj_V n S) (hC : ∀ e, lo ≤ e → e < hi → jc S C e (kls S e) = .inr (C e)) (hq : ∀ x, lo ≤ x → x < hi → jq S (C x)) (hst : stF S C F lo hi) : ∀ m e d G bo co, xh S e < m → lo ≤ e → e < hi → tw q lo hi S X G → slH q S X C F e G bo co → xh S e + 4 ≤ d → wk_C q.1.1 (vt_settle (hp_kd G (X e))) d 0 [vR (some (X e)), vR (some bo)] G (slP q S X F e G) (fun _ _ _ => False) := by
  intro m
  induction m with
  | zero => intro e d G bo co hm; omega
  | succ m ih =>
    intro e d G bo co hm h1 h2 hw h hd
    obtain ⟨⟨g1, g2⟩, g3⟩ := hw.hts hpw hh h1 h2
    have hih : slIH q S X C F lo hi (xh S e + 3) (kls S e) := fun k hk G bo co hw h => by
      obtain ⟨u1, u2, u3⟩ := g3 k hk
      exact ih k _ G bo co (by omega) u1 (by omega) hw h (by omega)
    have ks := (hpw e h1 h2).2
    have y3 := (ks.kl (by omega)).2.2
    have kd := (hw.2.1 e h1 h2).1.1.1
    have tog : ∀ (h3 : 3 ≤ S.2 32 e) (hk : S.2 32 e ≠ 26), wk_C q.1.1 mX12_settle d 0 [vR (some (X e)), vR (some bo)] G (slP q S X F e G) (fun _ _ _ => False) := fun h3 hk => X12_settle_C hw hpw hh h1 h2 h3 hk hst (by omega) (by omega) hih h
    rcases y3 with ⟨s, -⟩ | ⟨s, -⟩ | ⟨s, -⟩ | ⟨s, -⟩ | ⟨s, -⟩ | ⟨s, s2, -⟩ | ⟨s, s2, -⟩ | ⟨s, -⟩
    · rw [show hp_kd G (X e) = 13 by rw [kd, s]; rfl, vt_settle_13]
      exact X18_settle_C hw hpw hh h1 h2 (Or.inl s) h
    · rw [show hp_kd G (X e) = 13 by rw [kd, s]; rfl, vt_settle_13]
      exact X18_settle_C hw hpw hh h1 h2 (Or.inr s) h
    · rw [show hp_kd G (X e) = 14 by rw [kd, s]; rfl, vt_settle_14]
      exact X19_settle_C hpw hh hJ h1 h2 s (hC e h1 h2) h
    · rw [hw.kd3 h1 h2 s, vt_settle_21]
      exact tog (by rw [s]; decide) (by rw [s]; decide)
    · rw [hw.kd4 h1 h2 s, vt_settle_16]
      exact tog (by rw [s]; decide) (by rw [s]; decide)
    · have n26 : S.2 32 e ≠ 26 := fun u => by rw [u] at s2; exact absurd s2 (by decide)
      have h3 : 3 ≤ S.2 32 e := Int32.le_trans (by decide) s
      rcases Classical.em (S.2 32 e = 5 ∨ S.2 32 e = 6) with u | u
      · rw [hw.kd56 h1 h2 u, vt_settle_17]
        exact tog h3 n26
      · have h7 : 7 ≤ S.2 32 e ∧ S.2 32 e ≤ 23 := by
          refine ⟨?_, Int32.le_trans s2 (by decide)⟩
          rcases lk_range _ ⟨s, s2⟩ with v | v | v | v | v | v | v | v | v | v | v | v | v | v | v | v | v <;> first | (rw [v]; decide) | exact absurd (Or.inl v) u | exact absurd (Or.inr v) u
        rw [hw.kdop h1 h2 h7, vt_settle_15]
        exact tog h3 n26
    · rcases lk_range2 _ ⟨s, Int32.le_trans s2 (by decide)⟩ with v | v | v | v | v
      · have h7 : 7 ≤ S.2 32 e ∧ S.2 32 e ≤ 23 := by rw [v]; decide
        rw [hw.kdop h1 h2 h7, vt_settle_15]
        exact tog (by rw [v]; decide) (by rw [v]; decide)
      · have h7 : 7 ≤ S.2 32 e ∧ S.2 32 e ≤ 23 := by rw [v]; decide
        rw [hw.kdop h1 h2 h7, vt_settle_15]
        exact tog (by rw [v]; decide) (by rw [v]; decide)
      · rw [hw.kd24 h1 h2 v, vt_settle_18]
        exact tog (by rw [v]; decide) (by rw [v]; decide)
      · rw [hw.kd25 h1 h2 v, vt_settle_20]
        exact X17_settle_C hw hpw hh hJ h1 h2 v (hC e h1 h2) hq hst (by omega) (by omega) hih h
      · rw [v] at s2; exact absurd s2 (by decide)
    · rw [hw.kd26 h1 h2 s, vt_settle_19]
      exact X20_settle_C hw hpw hh hJ h1 h2 s (hC e h1 h2) hst (by omega) (by omega) hih h
end
