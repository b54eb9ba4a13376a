/-! what read leaves, as a statement; kept where nothing of it changes -/
set_option maxRecDepth 100000
section
variable {T : Nat → Int32} {n : Nat} {S S' : MS} {A Q P L B M C : Nat → Nat} {I : Nat}
theorem kls_cg (h : ∀ q, q ≤ 64 → S'.2 q = S.2 q) (e : Nat) : kls S' e = kls S e := by
  unfold kls
  rw [h 34 (by omega), h 35 (by omega)]
theorem el_cg (h : ∀ q, q ≤ 64 → S'.2 q = S.2 q) (y : Nat) : ∀ f e, el S' y f e = el S y f e := by
  intro f
  induction f with
  | zero => intro e; rfl
  | succ f ih =>
    intro e
    have he : el S' y f = el S y f := funext ih
    unfold el pcs_o
    rw [kls_cg h, he, h 32 (by omega), h 33 (by omega), h 43 (by omega), h 59 (by omega), h 61 (by omega), h 62 (by omega), h 37 (by omega), h 13 (by omega)]
theorem md_cv_cg2 (h : ∀ q, q ≤ 64 → S'.2 q = S.2 q) : ∀ f x c, md_cv S' f x c = md_cv S f x c := by
  intro f
  induction f with
  | zero => intro x c; rfl
  | succ f ih =>
    intro x c
    rw [md_cv, md_cv, ih, h 57 (by omega), h 43 (by omega), h 58 (by omega), h 59 (by omega)]
theorem cl_v_cg (h : ∀ q, q ≤ 64 → S'.2 q = S.2 q) (v : Nat) : cl_v S' v = cl_v S v := by
  unfold cl_v cl_c cl_b cv_w cv_g cv_x
  rw [h 63 (by omega), h 56 (by omega), h 12 (by omega), h 64 (by omega), h 22 (by omega), h 13 (by omega), h 27 (by omega), h 46 (by omega), h 47 (by omega), h 57 (by omega), h 58 (by omega), h 32 (by omega), h 59 (by omega), h 62 (by omega), h 61 (by omega), h 37 (by omega), h 33 (by omega), md_cv_cg2 h]
  simp only [el_cg h, kls_cg h]
theorem ce_cg (h : ∀ q, q ≤ 64 → S'.2 q = S.2 q) : ∀ v, ce S' v = ce S v := by
  intro v
  induction v with
  | zero => rfl
  | succ v ih => rw [ce, ce, ih, cl_v_cg h]
theorem gE_cg (h : ∀ q, q ≤ 64 → S'.2 q = S.2 q) : gE S' = gE S := funext fun v => by
  unfold gE
  rw [cl_v_cg h]
theorem rw_K.cg (hK : rw_K T n S A Q P L) (h1 : ∀ q, q = 18 ∨ q = 19 ∨ q = 30 ∨ q = 31 ∨ q = 40 → S'.1 q = S.1 q) (h2 : ∀ q, q ≤ 64 → S'.2 q = S.2 q) : rw_K T n S' A Q P L := by
  refine ⟨hK.1.cg h1 (fun q hq => h2 q (by omega)), fun f hf k k1 k2 => ?_⟩
  have eN : pr_N S' = pr_N S := by rw [pr_N, pr_N, h1 18 (by omega)]
  rw [eN] at hf
  have := hK.2 f hf k k1 k2
  unfold fk fk0 fu_e ar_o kls jg_v at this ⊢
  rw [h2 29 (by omega), h2 27 (by omega), h2 26 (by omega), h2 43 (by omega), h2 44 (by omega), h2 45 (by omega), h2 46 (by omega), h2 47 (by omega), h2 36 (by omega), h2 22 (by omega), h2 28 (by omega), h2 34 (by omega), h2 35 (by omega), h2 32 (by omega), h2 33 (by omega)]
  exact this
theorem rw_I.cg (hI : rw_I S I B M C) (h1 : S'.1 18 = S.1 18) (h2 : ∀ q, q ≤ 64 → S'.2 q = S.2 q) : rw_I S' I B M C := by
  have eN : pr_N S' = pr_N S := by rw [pr_N, pr_N, h1]
  have ev : vcn S' = vcn S := funext fun x => by rw [vcn, vcn, h2 12 (by omega)]
  have es : stn S' = stn S := funext fun x => by rw [stn, stn, h2 17 (by omega)]
  have ek : kcn S' = kcn S := funext fun x => by rw [kcn, kcn, h2 16 (by omega)]
  have el : pn_lo S' = pn_lo S := funext fun x => by rw [pn_lo, pn_lo, h2 29 (by omega), h2 15 (by omega)]
  have eh : pn_hi S' = pn_hi S := funext fun x => by rw [pn_hi, pn_hi, h2 27 (by omega), h2 15 (by omega)]
  unfold rw_I pr_R pr_Q pr_kc pr_U pr_up
  rw [eN, ev, es, ek, el, eh, h2 56 (by omega), h2 57 (by omega), h2 58 (by omega), h2 59 (by omega), h2 60 (by omega), h2 61 (by omega), h2 62 (by omega), h2 63 (by omega), h2 64 (by omega), h2 32 (by omega), h2 33 (by omega), h2 37 (by omega)]
  exact hI
end
/-- how many parts, how many variables the text has, put in -/
def rd_tp (S1 : MS) : Nat := ts (own_p S1) S1 (pr_N S1) (pr_N S1 - 1)
def rd_vc (S1 : MS) : Nat := ts (vcn S1) S1 (pr_N S1) (pr_N S1 - 1)
/-- the text's parse -/
def rd_R (T : Nat → Int32) (n : Nat) (S0 : MS) : Option PE := nds T n (20 * n + 20) (n + 1) (lx_skip T n 0) S0
/-- how the instances are numbered -/
def rd_N (S1 σ : MS) : Prop := ∃ σ2 σ3, pi (pr_N S1) (pr_N S1 - 1) (-1) (-1) σ2 = some σ3 ∧ (∀ q, q < 43 → σ2.2 q = S1.2 q) ∧ pi_c σ2 0 0 0 0 ∧ pr_N σ2 = pr_N S1 ∧ ∀ q, 56 ≤ q → q ≤ 64 → σ.2 q = σ3.2 q
/-- all is put in, the graph stands -/
def rd_G (T : Nat → Int32) (n : Nat) (S1 σ : MS) (A Q P L B M C : Nat → Nat) (I : Nat) : Prop := rw_K T n σ A Q P L ∧ rw_I σ I B M C ∧ (∀ q, q < 43 → σ.2 q = S1.2 q) ∧ (∀ q, q = 18 ∨ q = 19 ∨ q = 30 ∨ q = 31 ∨ q = 40 → σ.1 q = S1.1 q) ∧ σ.1 50 = nI I ∧ σ.1 51 = nI (B I) ∧ σ.1 52 = nI (M I) ∧ σ.1 53 = nI (M I) ∧ σ.2 48 (pr_N S1 - 1) = nI (rd_tp S1) ∧ gr σ (B I) (ce σ) (gE σ) ∧ rd_N S1 σ
theorem rd_G.cg {T : Nat → Int32} {n : Nat} {S1 σ σ' : MS} {A Q P L B M C : Nat → Nat} {I : Nat} (h : rd_G T n S1 σ A Q P L B M C I) (h1 : ∀ q, (10 ≤ q ∧ q ≤ 48) ∨ (50 ≤ q ∧ q ≤ 53) → σ'.1 q = σ.1 q) (h2 : ∀ q, q ≤ 66 → σ'.2 q = σ.2 q) : rd_G T n S1 σ' A Q P L B M C I := by
  obtain ⟨g1, g2, g3, g4, g5, g6, g7, g8, g9, g10, σ2, σ3, n1, n2, n3, n4, n5⟩ := h
  have h2' : ∀ q, q ≤ 64 → σ'.2 q = σ.2 q := fun q hq => h2 q (by omega)
  refine ⟨g1.cg (fun q hq => h1 q (by omega)) h2', g2.cg (h1 18 (by omega)) h2', fun q hq => by rw [h2 q (by omega)]; exact g3 q hq, fun q hq => by rw [h1 q (by omega)]; exact g4 q hq, by rw [h1 50 (by omega)]; exact g5, by rw [h1 51 (by omega)]; exact g6, by rw [h1 52 (by omega)]; exact g7, by rw [h1 53 (by omega)]; exact g8, by rw [h2 48 (by omega)]; exact g9, ?_, σ2, σ3, n1, n2, n3, n4, fun q q1 q2 => by rw [h2 q (by omega)]; exact n5 q q1 q2⟩
  have e1 : ce σ' = ce σ := funext (ce_cg h2')
  rw [e1, gE_cg h2']
  exact g10.cg (h1 51 (by omega)) (h2 65 (by omega)) (h2 66 (by omega))
/-- a fault of read: kind, place, the parts counted so far -/
def rd_E (T : Nat → Int32) (n ap : Nat) (S0 : MS) (kd pl : Int32) (ap' : Nat) : Prop :=
  (∃ c, rd_R T n S0 = some (.inl (kd, c)) ∧ pl = nI c ∧ ap' = ap) ∨
  (∃ c' S1, rd_R T n S0 = some (.inr (0, c', S1)) ∧ kd = 3 ∧ pl = nI n ∧ ap' = ap ∧ (3000 < rd_tp S1 ∨ 30000 < ap + rd_tp S1 ∨ rd_tp S1 ≤ 3000 ∧ ap + rd_tp S1 ≤ 30000 ∧ 6000 < rd_vc S1)) ∨
  (∃ c' S1 σ A Q P L B M C I v, rd_R T n S0 = some (.inr (0, c', S1)) ∧ rd_tp S1 ≤ 3000 ∧ ap + rd_tp S1 ≤ 30000 ∧ rd_vc S1 ≤ 6000 ∧ rd_G T n S1 σ A Q P L B M C I ∧ v < B I ∧ rch (gE σ) v v ∧ (∀ u, u < v → ¬ rch (gE σ) u u) ∧ kd = 7 ∧ pl = md_pl σ v ∧ ap' = ap + rd_tp S1)
/-- what read leaves -/
def rd_P (T : Nat → Int32) (n ap : Nat) (S0 : MS) (v : Option WV) (σ' : MS) : Prop :=
  (∃ kd pl ap', v = some (vI (-1)) ∧ rd_E T n ap S0 kd pl ap' ∧ σ'.1 49 = -1 ∧ σ'.1 3 = kd ∧ σ'.1 4 = pl ∧ σ'.1 55 = nI ap' ∧ σ'.1 1 = 0 ∧ σ'.1 2 = 0 ∧ σ'.1 72 = 0 ∧ σ'.1 83 = 0 ∧ σ'.2 12 0 = 0) ∨
  (∃ c' S1 A Q P L B M C I, v = some (vI (nI (B I))) ∧ rd_R T n S0 = some (.inr (0, c', S1)) ∧ rd_tp S1 ≤ 3000 ∧ ap + rd_tp S1 ≤ 30000 ∧ rd_vc S1 ≤ 6000 ∧ rd_G T n S1 σ' A Q P L B M C I ∧ (∀ v, v < B I → ¬ rch (gE σ') v v) ∧ (∃ o, ord (B I) (gE σ') o (B I) ∧ (∀ i, i < B I → σ'.2 70 i = nI (o i)) ∧ ∀ v, v < B I → ∃ i, i < B I ∧ o i = v) ∧
    σ'.1 49 = nI (pr_N S1 - 1) ∧ σ'.1 3 = 0 ∧ σ'.1 4 = 0 ∧ σ'.1 55 = nI (ap + rd_tp S1) ∧ σ'.1 1 = 0 ∧ σ'.1 2 = 0 ∧ σ'.1 72 = 0 ∧ σ'.1 83 = 0 ∧ σ'.2 12 0 = 0 ∧ (∀ j, j < 100 → σ'.2 73 j = 0) ∧ ∀ j, j < 6600 → σ'.2 75 j = 0)
/-- OWED: the causes of a text of at most 3000 parts are at most 40000 -/
def rd_EB : Prop := ∀ (T : Nat → Int32) (n : Nat) (S : MS) (A Q P L B M C : Nat → Nat) (I : Nat), rw_K T n S A Q P L → rw_I S I B M C → I = ts one1 S (pr_N S) (pr_N S - 1) → ts (own_p S) S (pr_N S) (pr_N S - 1) ≤ 3000 → ce S (B I) ≤ 40000
/-! read's start -/
def rd_a (σ : MS) : MS := ml_sf (ml_sf (ml_sf (ml_sf σ 2 0) 5 0) 9 0) 3 0
def rd_b (σ : MS) : MS := ml_sf (ml_sf (ml_sf (ml_sf σ 4 0) 18 0) 19 0) 30 0
def rd_k (σ : MS) : MS := ml_sf (ml_sf (ml_sa (ml_sf σ 31 0) 26 (0 : Int32).toNatClampNeg 0) 40 0) 49 (-1)
def rd_d (σ : MS) : MS := ml_sf (ml_sf (ml_sf (ml_sf σ 50 0) 51 0) 52 0) 53 0
def rd_e (σ : MS) : MS := ml_sf (ml_sf (ml_sf (ml_sf σ 54 0) 67 0) 72 0) 83 0
def rd_0 (σ : MS) : MS := rd_e (rd_d (rd_k (rd_b (rd_a σ))))
theorem rd_0_1 {σ : MS} {q : Nat} : (rd_0 σ).1 q = if q = 49 then -1 else if q = 2 ∨ q = 5 ∨ q = 9 ∨ q = 3 ∨ q = 4 ∨ q = 18 ∨ q = 19 ∨ q = 30 ∨ q = 31 ∨ q = 40 ∨ q = 50 ∨ q = 51 ∨ q = 52 ∨ q = 53 ∨ q = 54 ∨ q = 67 ∨ q = 72 ∨ q = 83 then 0 else σ.1 q := by
  unfold rd_0 rd_e rd_d rd_k rd_b rd_a
  simp only [ml_sf_f, ml_sa_f]
  by_cases h : q = 49
  · subst h; simp
  · rw [if_neg h]
    by_cases h2 : q = 2 ∨ q = 5 ∨ q = 9 ∨ q = 3 ∨ q = 4 ∨ q = 18 ∨ q = 19 ∨ q = 30 ∨ q = 31 ∨ q = 40 ∨ q = 50 ∨ q = 51 ∨ q = 52 ∨ q = 53 ∨ q = 54 ∨ q = 67 ∨ q = 72 ∨ q = 83
    · rw [if_pos h2]
      rcases h2 with rfl | rfl | rfl | rfl | rfl | rfl | rfl | rfl | rfl | rfl | rfl | rfl | rfl | rfl | rfl | rfl | rfl | rfl <;> simp
    · rw [if_neg h2]
      simp only [not_or] at h2
      obtain ⟨a1, a2, a3, a4, a5, a6, a7, a8, a9, a10, a11, a12, a13, a14, a15, a16, a17, a18⟩ := h2
      rw [if_neg a18, if_neg a17, if_neg a16, if_neg a15, if_neg a14, if_neg a13, if_neg a12, if_neg a11, if_neg h, if_neg a10, if_neg a9, if_neg a8, if_neg a7, if_neg a6, if_neg a5, if_neg a4, if_neg a3, if_neg a2, if_neg a1]
theorem rd_0_2 {σ : MS} {q j : Nat} : (rd_0 σ).2 q j = if q = 26 ∧ j = 0 then 0 else σ.2 q j := by
  have : (0 : Int32).toNatClampNeg = 0 := rfl
  unfold rd_0 rd_e rd_d rd_k rd_b rd_a
  simp only [ml_sf_a, ml_sa_a, this]
  by_cases h : q = 26
  · by_cases h2 : j = 0
    · rw [if_pos h, if_pos h2, if_pos ⟨h, h2⟩]
    · rw [if_pos h, if_neg h2, if_neg (fun u => h2 u.2)]
  · rw [if_neg h, if_neg (fun u => h u.1)]
theorem rd_I {σ : MS} {n : Nat} (hn : n ≤ 5000) (h1 : σ.1 1 = nI n) (h12 : σ.2 12 0 = 0) : ps n (lx_skip (σ.2 0) n 0) (lx_nz (rd_0 σ)) (rd_0 σ) ∧ nd_I n (lx_skip (σ.2 0) n 0) (lx_nz (rd_0 σ)) ∧ (lx_nz (rd_0 σ)).2 0 = σ.2 0 := by
  have hT : (rd_0 σ).2 0 = σ.2 0 := funext fun j => by rw [rd_0_2, if_neg (by omega)]
  have hsk := lx_skip_ge (T := σ.2 0) (n := n) n 0 (by omega) (Nat.zero_le _)
  have hnz : ∀ q, ¬ (5 ≤ q ∧ q ≤ 9) → (lx_nz (rd_0 σ)).1 q = (rd_0 σ).1 q := fun q hq => if_neg hq
  have h0 : (0 : Int32) = nI 0 := rfl
  have f : ∀ q, q = 18 ∨ q = 19 ∨ q = 30 ∨ q = 31 ∨ q = 40 → (lx_nz (rd_0 σ)).1 q = nI 0 := fun q hq => by
    rw [hnz q (by omega), rd_0_1, if_neg (by omega), if_pos (by omega)]
    rfl
  have c0 : (nI 0).toNatClampNeg = 0 := rfl
  have eN : pr_N (lx_nz (rd_0 σ)) = 0 := by rw [pr_N, f 18 (by omega), c0]
  have ev : pr_v (lx_nz (rd_0 σ)) = 0 := by rw [pr_v, f 19 (by omega), c0]
  have ek : pr_k (lx_nz (rd_0 σ)) = 0 := by rw [pr_k, f 30 (by omega), c0]
  have el : pr_l (lx_nz (rd_0 σ)) = 0 := by rw [pr_l, f 31 (by omega), c0]
  have ep : pr_p (lx_nz (rd_0 σ)) = 0 := by rw [pr_p, f 40 (by omega), c0]
  have e12 : (lx_nz (rd_0 σ)).2 12 0 = nI 0 := by
    show (rd_0 σ).2 12 0 = _
    rw [rd_0_2, if_neg (by omega), h12]
    rfl
  have ea : pr_a (lx_nz (rd_0 σ)) = 0 := by rw [pr_a, eN, e12, c0]
  refine ⟨⟨⟨by omega, by rw [rd_0_1, if_neg (by omega), if_neg (by omega)]; exact h1, Or.inl ⟨by rw [rd_0_1, if_neg (by omega), if_pos (by omega)], 0, Nat.zero_le _, by rw [rd_0_1, if_neg (by omega), if_pos (by omega)]; rfl, by rw [hT]⟩⟩, rfl⟩, ⟨⟨⟨by omega, 0, 0, 0, f 18 (by omega), by omega, f 19 (by omega), by omega, e12, Nat.le_refl _, fun i hi => by omega, fun i hi => by omega, fun v a b => by omega⟩, fun v hv => by rw [ev] at hv; omega, fun g hg => by rw [eN] at hg; omega⟩, by rw [ea, ev], by rw [ev]; exact Nat.zero_le _, hsk.2, hn, by rw [ep]; exact f 40 (by omega), by rw [ep]; exact Nat.zero_le _, by rw [ek]; exact f 30 (by omega), by rw [ek]; exact Nat.zero_le _, by rw [el]; exact f 31 (by omega), by rw [el]; exact Nat.zero_le _, ?_⟩, hT⟩
  rw [ek, el]
  show (rd_0 σ).2 26 0 = _
  rw [rd_0_2, if_pos ⟨rfl, rfl⟩]
  rfl
