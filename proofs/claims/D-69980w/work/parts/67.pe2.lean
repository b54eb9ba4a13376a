/-! an equation: what it leaves -/
set_option maxRecDepth 100000
theorem pw_s.qsame {S S' : MS} (h : pq_same S S') {kind what : Int32} {m : Nat} (q : pw_s S kind what m) : pw_s S' kind what m := by
  unfold pw_s
  rw [h.N, h.a, h.v, h.2 24 (by omega) (by omega) (by omega) (by omega) (by omega)]
  exact q
/-- the same forest where nothing but equations has changed -/
theorem pw.cgq {S S' : MS} {lo hi : Nat} (h : pq_same S S') (hk : ∀ q j, 32 ≤ q → q ≤ 34 → j < hi → S'.2 q j = S.2 q j) (hb : ∀ j, lo ≤ j → j + 1 < hi → S'.2 35 j = S.2 35 j) (q : pw S lo hi) : pw S' lo hi := by
  intro e h1 h2
  obtain ⟨g1, ks, g2, g3, g4⟩ := q e h1 h2
  have hlw : ∀ k, k < hi → lw (S'.2 34) k = lw (S.2 34) k := fun k hk' => lw_cg (hi - 1) k (by omega) (fun j hj => hk 34 j (by omega) (by omega) (by omega))
  refine ⟨by rw [hlw e h2]; exact g1, ks, ?_, ?_, ?_⟩
  · rw [hk 34 e (by omega) (by omega) h2]
    refine md_ch_cg ks _ (fun k hk' => ?_) g2
    have := (pw_k_mem ks _ g3).2 k hk'
    exact (hb k (by omega) (by omega)).symm
  · rw [hlw e h2]
    exact pw_k_cg ks _ (fun k hk' => (hlw k (by omega)).symm) g3
  · rw [hk 32 e (by omega) (by omega) h2, hk 33 e (by omega) (by omega) h2]
    exact g4.qsame h
/-- an equation k, from the place c -/
def pe_W (T : Nat → Int32) (n : Nat) (S' : MS) (k c p p' l l' : Nat) : Prop :=
  S'.2 25 k = nI c ∧ c < n ∧ S'.2 29 k = nI p ∧ S'.2 27 k = nI (p' - 1) ∧ p < p' ∧ S'.2 26 k = nI l ∧ S'.2 26 (k + 1) = nI l' ∧ l < l' ∧ lw (S'.2 34) (p' - 1) = p ∧ pw S' p p' ∧ pl_ok S' l l' ∧ (lx_kind T n c = 40 → S'.2 32 (p' - 1) = 3) ∧ (lx_kind T n c ≠ 40 → l' = l + 1)
/-- among the left and the right side: the state S' behind c', begun at S -/
def pe_M1 (n : Nat) (S : MS) (k c' : Nat) (S' : MS) : Prop :=
  pn_E n c' S' ∧ pq_same S S' ∧ pr_k S' = k ∧ pr_p S ≤ pr_p S' ∧ pr_l S < pr_l S' ∧ pf_old k (pr_l S) (pr_p S) S S' ∧ S'.2 25 k = S.2 25 k ∧ S'.2 29 k = S.2 29 k ∧ pl_ok S' (pr_l S) (pr_l S') ∧ pl_gv S S' (pr_l S) (pr_l S')
theorem pl_R.M {n c c' : Nat} {S S' : MS} (h : pl_R n S c c' S') (hl : pr_l S < pr_l S') : pe_M1 n S (pr_k S) c' S' := by
  obtain ⟨a1, a2, a3, a4, a5, a6, a7, a8, a9, a10⟩ := h
  exact ⟨a1, a3, a4, by omega, hl, a7, (a8 _).1, (a8 _).2.1, a9, a10⟩
theorem pe_M1.step {n k c' c2 : Nat} {S S' : MS} (h : pe_M1 n S k c' S') (h1 : c' ≤ c2) (h2 : c2 ≤ n) : pe_M1 n S k c2 S' := by
  obtain ⟨⟨hV, b1, b2, b3, b4, b5, b6, b7, b8, b9⟩, r⟩ := h
  exact ⟨⟨hV, h2, b2, b3, by omega, b5, by omega, b7, by omega, b9⟩, r⟩
/-- the right side, parsed and noted -/
theorem pe_M1.rhs {T : Nat → Int32} {n f m a k c1 e c2 : Nat} {S S1 S2 : MS} (h : pe_M1 n S k c1 S1) (h2 : pp T n f m 0 a [] c1 S1 = some (.inr (e, c2, S2))) (hm : m = 0 ∨ m = 14) (ha : m = 14 → a < pr_N S1) :
    pe_M1 n S k c2 (ml_sa S2 27 k (nI e)) ∧ c1 ≤ c2 ∧ (ml_sa S2 27 k (nI e)).2 27 k = nI e ∧ pr_p (ml_sa S2 27 k (nI e)) = e + 1 ∧ pr_p S1 ≤ e ∧ pr_l (ml_sa S2 27 k (nI e)) = pr_l S1 ∧ pe_R n S1 (pr_p S1) (pr_p S1) c1 e c2 S2 := by
  obtain ⟨⟨hV, b1, b2, b3, b4, b5, b6, b7, b8, b9, b10⟩, a3, a4, a5, a6, a7, a8, a9, a10, a11⟩ := h
  have hR := ((pp_ok (T := T) (n := n) pc_cl_T f).main h2 (by omega) b3 b4 b1 hV ha).1
  dsimp only at hR
  have hR0 := hR
  obtain ⟨s1, x1, y1, z1, r1, u1, v1, w1, f1, l1, w1'⟩ := hR
  have hq := s1.q
  have sb : pq_same S2 (ml_sa S2 27 k (nI e)) := ⟨fun _ _ _ _ => rfl, fun q _ _ _ h4 _ => by
    funext j
    rw [ml_sa_a, if_neg (by omega)]⟩
  have hall := (a3.tr hq).tr sb
  have ep : pr_p (ml_sa S2 27 k (nI e)) = e + 1 := by
    show (S2.1 40).toNatClampNeg = _
    rw [x1, nI_clamp (by omega)]
  have ek : pr_k (ml_sa S2 27 k (nI e)) = k := by
    show (S2.1 30).toNatClampNeg = _
    rw [s1.1 30 (by omega)]
    exact a4
  have el : pr_l (ml_sa S2 27 k (nI e)) = pr_l S1 := by
    show (S2.1 31).toNatClampNeg = _
    rw [s1.1 31 (by omega)]
    rfl
  have eV := (hV.qsame hq).qsame sb
  have eN : pr_N (ml_sa S2 27 k (nI e)) = pr_N S1 := by rw [sb.N, hq.N]
  have ei : pr_i (ml_sa S2 27 k (nI e)) = pr_i S1 := by rw [sb.i, hq.i]
  have hother : ∀ q j, q ≠ 27 → ¬ (32 ≤ q ∧ q ≤ 39) → q ≠ 16 → q ≠ 17 → (ml_sa S2 27 k (nI e)).2 q j = S1.2 q j := fun q j h1 h2 h3 h4 => by
    rw [ml_sa_a, if_neg h1, s1.2 q h3 h4 h2]
  refine ⟨⟨⟨eV, v1, b2, by rw [ep]; exact x1, by omega, by rw [ek]; show S2.1 30 = _; rw [s1.1 30 (by omega), b5, a4], by rw [ek]; omega, by rw [el]; show S2.1 31 = _; rw [s1.1 31 (by omega), b7], by rw [el]; omega, ?_, ?_⟩, hall, ek, by omega, by omega, ?_, ?_, ?_, ?_, ?_⟩, u1, ?_, ep, z1, el, hR0⟩
  · rw [eN, ei, hother 13 _ (by omega) (by omega) (by omega) (by omega)]; exact b9
  · rw [sb.a, hq.a, ei, sb.v, hq.v]; exact b10
  · refine ⟨fun q j h1 h2 => ?_, fun j h1 => ?_, fun j h1 => ?_, fun q j h1 h2 h3 => ?_⟩
    · rw [← a7.1 q j h1 h2]
      rcases Decidable.em (q = 27) with e9 | e9
      · rw [ml_sa_a, if_pos e9, if_neg (by omega), s1.2 q (by omega) (by omega) (by omega)]
      · exact hother q j e9 (by omega) (by omega) (by omega)
    · rw [hother 26 j (by omega) (by omega) (by omega) (by omega)]; exact a7.2.1 j h1
    · rw [hother 28 j (by omega) (by omega) (by omega) (by omega)]; exact a7.2.2.1 j h1
    · rw [ml_sa_a, if_neg (by omega), f1 q j h1 h2 (by omega)]; exact a7.2.2.2 q j h1 h2 h3
  · rw [hother 25 k (by omega) (by omega) (by omega) (by omega)]; exact a8
  · rw [hother 29 k (by omega) (by omega) (by omega) (by omega)]; exact a9
  · intro j h1 h2
    obtain ⟨x, g1, g2, g3⟩ := a10 j h1 (by omega)
    exact ⟨x, by rw [hother 28 j (by omega) (by omega) (by omega) (by omega)]; exact g1, by rw [ei]; exact g2, by rw [sb.a, hq.a, sb.v, hq.v]; exact g3⟩
  · intro v hv
    rw [hother 23 v (by omega) (by omega) (by omega) (by omega), a11 v hv, el]
    congr 2
    exact gc_cg _ (fun j h1 h2 => (hother 28 j (by omega) (by omega) (by omega) (by omega)).symm)
  · rw [ml_sa_a, if_pos rfl, if_pos rfl]
theorem pe_0_same {S : MS} {k c : Nat} : pq_same S (pe_0 S k c) := ⟨fun _ _ _ _ => rfl, fun q _ _ _ h4 _ => by
  funext j
  show (ml_sa (ml_sa (ml_sa S 25 k _) 26 k _) 29 k _).2 q j = _
  rw [ml_sa_a, if_neg (by omega), ml_sa_a, if_neg (by omega), ml_sa_a, if_neg (by omega)]⟩
theorem pe_0_E {n c : Nat} {S : MS} (h : pn_E n c S) : pn_E n c (pe_0 S (pr_k S) c) := by
  obtain ⟨hV, b1, b2, b3, b4, b5, b6, b7, b8, b9, b10⟩ := h
  have e := pe_0_same (S := S) (k := pr_k S) (c := c)
  exact ⟨hV.qsame e, b1, b2, b3, b4, b5, b6, b7, b8, by rw [e.N, e.i, e.2 13 (by omega) (by omega) (by omega) (by omega) (by omega)]; exact b9, by rw [e.a, e.i, e.v]; exact b10⟩
/-- the equation's end, from the middle's state -/
theorem pe_end_ok {T : Nat → Int32} {n c c1 e9 c' : Nat} {S S1 S' : MS} (hE : pn_E n c S) (hB : S.2 26 (pr_k S) = nI (pr_l S)) (h : pe_M1 n (pe_0 S (pr_k S) c) (pr_k S) c1 S1) (hcn : c < n) (hcc : c + 1 ≤ c1) (h2 : pe_end T n (pr_k S) c1 S1 = some (.inr (e9, c', S')))
    (hp : pr_p S < pr_p S1) (h27 : S1.2 27 (pr_k S) = nI (pr_p S1 - 1)) (hl : lw (S1.2 34) (pr_p S1 - 1) = pr_p S) (hw : pw S1 (pr_p S) (pr_p S1)) (hk1 : lx_kind T n c = 40 → S1.2 32 (pr_p S1 - 1) = 3) (hk2 : lx_kind T n c ≠ 40 → pr_l S1 = pr_l S + 1) :
    e9 = 0 ∧ pn_E n c' S' ∧ S'.2 26 (pr_k S') = nI (pr_l S') ∧ c + 1 ≤ c' ∧ pq_same S S' ∧ pr_k S' = pr_k S + 1 ∧ pf_old (pr_k S) (pr_l S) (pr_p S) S S' ∧ pl_gv S S' (pr_l S) (pr_l S') ∧ pe_W T n S' (pr_k S) c (pr_p S) (pr_p S') (pr_l S) (pr_l S') := by
  unfold pe_end at h2
  split at h2
  · rename_i g
    obtain ⟨t1, t2⟩ := lx_tk (T := T) (n := n) (c := c1) (by rw [g]; decide)
    have h' := Sum.inr.inj (Option.some.inj h2)
    cases h'
    obtain ⟨⟨hV, b1, b2, b3, b4, b5, b6, b7, b8, b9, b10⟩, a3, a4, a5, a6, a7, a8, a9, a10, a11⟩ := h
    have hkk := hE.2.2.2.2.2.2.1
    have sb : pq_same S1 (ml_sa (ml_sf S1 30 (nI (pr_k S + 1))) 26 (pr_k S + 1) (S1.1 31)) := ⟨fun q h1 _ _ => if_neg h1, fun q _ _ _ h4 _ => by
      funext j
      rw [ml_sa_a, if_neg (by omega)]
      rfl⟩
    have e0 := pe_0_same (S := S) (k := pr_k S) (c := c)
    have hall := (e0.tr a3).tr sb
    have hoth : ∀ q j, q ≠ 26 → (ml_sa (ml_sf S1 30 (nI (pr_k S + 1))) 26 (pr_k S + 1) (S1.1 31)).2 q j = S1.2 q j := fun q j hq => by
      rw [ml_sa_a, if_neg hq]
      rfl
    have h26 : (ml_sa (ml_sf S1 30 (nI (pr_k S + 1))) 26 (pr_k S + 1) (S1.1 31)).2 26 (pr_k S + 1) = nI (pr_l S1) := by rw [ml_sa_a, if_pos rfl, if_pos rfl]; exact b7
    have h26' : ∀ j, j ≤ pr_k S → (ml_sa (ml_sf S1 30 (nI (pr_k S + 1))) 26 (pr_k S + 1) (S1.1 31)).2 26 j = S1.2 26 j := fun j hj => by
      rw [ml_sa_a, if_pos rfl, if_neg (by omega)]
      rfl
    have h0 : ∀ q j, q ≠ 25 → q ≠ 26 → q ≠ 29 → (pe_0 S (pr_k S) c).2 q j = S.2 q j := fun q j x y z => by
      show (ml_sa (ml_sa (ml_sa S 25 _ _) 26 _ _) 29 _ _).2 q j = _
      rw [ml_sa_a, if_neg z, ml_sa_a, if_neg y, ml_sa_a, if_neg x]
    have h0k : ∀ q j, j ≠ pr_k S → (pe_0 S (pr_k S) c).2 q j = S.2 q j := fun q j x => by
      show (ml_sa (ml_sa (ml_sa S 25 _ _) 26 _ _) 29 _ _).2 q j = _
      rw [ml_sa_a, if_neg x, ml_sa_a, if_neg x, ml_sa_a, if_neg x]
      repeat' split
      all_goals rfl
    have h0a : (pe_0 S (pr_k S) c).2 25 (pr_k S) = nI c := by
      show (ml_sa (ml_sa (ml_sa S 25 _ _) 26 _ _) 29 _ _).2 25 _ = _
      rw [ml_sa_a, if_neg (by omega), ml_sa_a, if_neg (by omega), ml_sa_a, if_pos rfl, if_pos rfl]
    have h0b : (pe_0 S (pr_k S) c).2 26 (pr_k S) = nI (pr_l S) := by
      show (ml_sa (ml_sa (ml_sa S 25 _ _) 26 _ _) 29 _ _).2 26 _ = _
      rw [ml_sa_a, if_neg (by omega), ml_sa_a, if_pos rfl, if_pos rfl]
      exact hE.2.2.2.2.2.2.2.1
    have h0c : (pe_0 S (pr_k S) c).2 29 (pr_k S) = nI (pr_p S) := by
      show (ml_sa (ml_sa (ml_sa S 25 _ _) 26 _ _) 29 _ _).2 29 _ = _
      rw [ml_sa_a, if_pos rfl, if_pos rfl]
      exact hE.2.2.2.1
    have el : pr_l (ml_sa (ml_sf S1 30 (nI (pr_k S + 1))) 26 (pr_k S + 1) (S1.1 31)) = pr_l S1 := rfl
    have ek : pr_k (ml_sa (ml_sf S1 30 (nI (pr_k S + 1))) 26 (pr_k S + 1) (S1.1 31)) = pr_k S + 1 := by
      show (nI (pr_k S + 1)).toNatClampNeg = _
      exact nI_clamp (by have := hE.2.1; have := hE.2.2.1; omega)
    have epp : pr_p (pe_0 S (pr_k S) c) = pr_p S := rfl
    have ell : pr_l (pe_0 S (pr_k S) c) = pr_l S := rfl
    rw [epp] at a5 a7
    rw [ell] at a6 a7 a10 a11
    refine ⟨rfl, ⟨hV.qsame sb, t2, b2, b3, by show pr_p S1 ≤ _; omega, by rw [ek]; rfl, by rw [ek]; omega, b7, by show pr_l S1 ≤ _; omega, ?_, ?_⟩, by rw [ek, el]; exact h26, by omega, hall, ek, ?_, ?_, ?_⟩
    · rw [sb.N, sb.i, sb.2 13 (by omega) (by omega) (by omega) (by omega) (by omega)]; exact b9
    · rw [sb.a, sb.i, sb.v]; exact b10
    · refine ⟨fun q j h1 h2 => ?_, fun j h1 => ?_, fun j h1 => ?_, fun q j h1 h2 h3 => ?_⟩
      · rw [hoth q j (by omega), a7.1 q j h1 h2, h0k q j (by omega)]
      · rw [h26' j h1, a7.2.1 j h1]
        rcases Decidable.em (j = pr_k S) with e | e
        · rw [e, h0b, hB]
        · exact h0k 26 j e
      · rw [hoth 28 j (by omega), a7.2.2.1 j h1, h0 28 j (by omega) (by omega) (by omega)]
      · rw [hoth q j (by omega), a7.2.2.2 q j h1 h2 h3, h0 q j (by omega) (by omega) (by omega)]
    · intro v hv
      rw [hoth 23 v (by omega), a11 v hv, h0 23 v (by omega) (by omega) (by omega), e0.a, el]
      congr 2
    · refine ⟨by rw [hoth 25 _ (by omega), a8, h0a], hcn, by rw [hoth 29 _ (by omega), a9, h0c], by rw [hoth 27 _ (by omega)]; exact h27, hp, by rw [h26' _ (Nat.le_refl _), a7.2.1 _ (Nat.le_refl _), h0b], h26, a6, ?_, ?_, ?_, ?_, hk2⟩
      · show lw ((ml_sa (ml_sf S1 30 (nI (pr_k S + 1))) 26 (pr_k S + 1) (S1.1 31)).2 34) (pr_p S1 - 1) = _
        rw [show (ml_sa (ml_sf S1 30 (nI (pr_k S + 1))) 26 (pr_k S + 1) (S1.1 31)).2 34 = S1.2 34 from funext fun j => hoth 34 j (by omega)]
        exact hl
      · exact hw.cgq sb (fun q j x y z => hoth q j (by omega)) (fun j x y => hoth 35 j (by omega))
      · intro j h1 h2
        obtain ⟨x, g1, g2, g3⟩ := a10 j h1 h2
        exact ⟨x, by rw [hoth 28 j (by omega)]; exact g1, by rw [sb.i]; exact g2, by rw [sb.a, sb.v]; exact g3⟩
      · intro u
        show (ml_sa (ml_sf S1 30 (nI (pr_k S + 1))) 26 (pr_k S + 1) (S1.1 31)).2 32 (pr_p S1 - 1) = 3
        rw [hoth 32 _ (by omega)]
        exact hk1 u
  · cases h2
/-- a call's parse leaves a call -/
theorem pp_args_sort {T : Nat → Int32} {n d k lo : Nat} : ∀ f l c p S e c' S', pp T n f 15 d k l c S = some (.inr (e, c', S')) → pp_pre n 15 k l lo p c S → S'.2 32 e = 3 ∧ S'.2 33 e = nI k := by
  intro f
  induction f with
  | zero => intro l c p S e c' S' h; exact (pp_none h).elim
  | succ f ih =>
    intro l c p S e c' S' h hpre
    have h' : pp_args T n (pp T n f) d k l c S = some (.inr (e, c', S')) := h
    unfold pp_args at h'
    have hV := hpre.2.2.2.1
    have hn := hV.1
    split at h'
    · rename_i g
      obtain ⟨t1, t2⟩ := lx_tk (T := T) (n := n) (c := c) (by rw [g]; decide)
      obtain ⟨x, c1, S1, h1, h2⟩ := pr_b_ok h'
      have hR := ((pp_ok (T := T) (n := n) pc_cl_T f).main h1 (by omega) hpre.1 (by have := hpre.2.1; omega) t2 hV (by omega)).1
      exact ih _ _ _ _ _ _ _ h2 (pp_args_pre hR hpre (by have := hpre.2.1; omega))
    · split at h'
      · have hp2 : p < 2 ^ 31 := by have := hpre.2.1; have := hpre.2.2.1; omega
        obtain ⟨q1, q2, hM⟩ := pr_call_ok h' hpre.1 hp2
        dsimp only at q1 q2 hM
        subst q1
        exact ⟨hM.2.2.2.1, hM.2.2.2.2.1⟩
      · cases h'
theorem pp_call_sort {T : Nat → Int32} {n d k f c p e c' : Nat} {S S' : MS} (h : pp T n f 14 d k [] c S = some (.inr (e, c', S'))) (hp : S.1 40 = nI p) (hpc : p ≤ c) (hcn : c ≤ n) (hV : pe_V n S) (hk : k < pr_N S) : S'.2 32 e = 3 ∧ S'.2 33 e = nI k := by
  match f, h with
  | 0, h => exact (pp_none h).elim
  | f + 1, h =>
    have h' : pp_call T n (pp T n f) d k c S = some (.inr (e, c', S')) := h
    unfold pp_call at h'
    split at h'
    · rename_i g
      obtain ⟨t1, t2⟩ := lx_tk (T := T) (n := n) (c := c) (by rw [g]; decide)
      obtain ⟨x, c1, S1, h1, h2⟩ := pr_b_ok h'
      have hR := ((pp_ok (T := T) (n := n) pc_cl_T f).main h1 (by omega) hp (by omega) t2 hV (by omega)).1
      dsimp only at hR
      obtain ⟨s1', x1', y1, z1, r1', u1, v1, w1, f1, l1, w1'⟩ := hR
      refine pp_args_sort f [x] c1 (x + 1) S1 e c' S' h2 (lo := p) ⟨x1', by omega, by omega, hV.same s1', ?_⟩
      rw [if_neg (by omega), if_pos rfl]
      refine ⟨by rw [s1'.N]; exact hk, by simp, ⟨l1, z1, by omega, rfl⟩, ⟨rfl, ?_⟩, w1'⟩
      rw [r1']
      show (-1 : Int32) < 0
      decide
    · cases h'
theorem pe_eq_ok {T : Nat → Int32} {n f c e9 c' : Nat} {S S' : MS} (h : pe_eq T n f c S = some (.inr (e9, c', S'))) (hE : pn_E n c S) (hB : S.2 26 (pr_k S) = nI (pr_l S)) :
    e9 = 0 ∧ pn_E n c' S' ∧ S'.2 26 (pr_k S') = nI (pr_l S') ∧ c + 1 ≤ c' ∧ pq_same S S' ∧ pr_k S' = pr_k S + 1 ∧ pf_old (pr_k S) (pr_l S) (pr_p S) S S' ∧ pl_gv S S' (pr_l S) (pr_l S') ∧ pe_W T n S' (pr_k S) c (pr_p S) (pr_p S') (pr_l S) (pr_l S') := by
  unfold pe_eq at h
  obtain ⟨e1, c1, S1, h1, h2⟩ := pr_b_ok h
  have hE0 := pe_0_E hE
  split at h1
  · rename_i g
    obtain ⟨t1, t2⟩ := lx_tk (T := T) (n := n) (c := c) (by rw [g]; decide)
    have hc : c < n := lx_kind_lt (T := T) (by rw [g]; decide)
    unfold pe_many at h1
    obtain ⟨e2, c2, S2, h3, h1⟩ := pr_b_ok h1
    have hE1 : pn_E n (lx_next T n c) (pe_0 S (pr_k S) c) := by
      obtain ⟨hV, b1, b2, b3, b4, b5, b6, b7, b8, b9⟩ := hE0
      exact ⟨hV, t2, b2, b3, by omega, b5, by omega, b7, by omega, b9⟩
    obtain ⟨-, q1, q2, hR⟩ := pe_left_R h3 hE1
    obtain ⟨e3, c3, S3, h4, h1⟩ := pr_b_ok h1
    obtain ⟨-, hR2⟩ := pe_lefts_R _ _ _ _ _ _ h4 hR.1
    have hR3 := hR.tr hR2
    have hl3 : pr_l (pe_0 S (pr_k S) c) < pr_l S3 := by have := hR2.2.2.2.2.2.1; omega
    have hM : pe_M1 n (pe_0 S (pr_k S) c) (pr_k S) c3 S3 := hR3.M hl3
    have hcc := hR2.2.1
    have hp3 : pr_p S3 = pr_p S := hR3.2.2.2.2.1
    split at h1
    · rename_i g4
      obtain ⟨t3, t4⟩ := lx_tk (T := T) (n := n) (c := c3) (by rw [g4]; decide)
      split at h1
      · rename_i g5
        obtain ⟨t5, t6⟩ := lx_tk (T := T) (n := n) (c := lx_next T n c3) (by rw [g5]; decide)
        split at h1
        · cases h1
        rename_i g6
        obtain ⟨t7, t8⟩ := lx_tkn (Decidable.not_not.1 g6)
        split at h1
        · rename_i g7
          obtain ⟨e4, c4, S4, h5, h1⟩ := pr_b_ok h1
          have hM1 := hM.step (c2 := lx_next T n (lx_next T n (lx_next T n c3))) (by omega) t8
          obtain ⟨hM2, u1, u2, u3, u4, u5, hpR⟩ := hM1.rhs h5 (Or.inr rfl) (fun _ => g7)
          have h' := Sum.inr.inj (Option.some.inj h1)
          cases h'
          have hsrt := pp_call_sort h5 hM1.1.2.2.2.1 hM1.1.2.2.2.2.1 hM1.1.2.1 hM1.1.1 g7
          have ho : ∀ q j, q ≠ 27 → (ml_sa S4 27 (pr_k S) (nI e4)).2 q j = S4.2 q j := fun q j hq => by rw [ml_sa_a, if_neg hq]
          have e34 : (ml_sa S4 27 (pr_k S) (nI e4)).2 34 = S4.2 34 := funext fun j => ho 34 j (by omega)
          refine pe_end_ok hE hB hM2 hc (by omega) h2 (by rw [u3]; omega) (by rw [u3]; exact u2) ?_ ?_ (fun _ => ?_) (fun u => absurd g u)
          · rw [u3, e34, ← hp3]
            exact hpR.2.2.2.2.2.2.2.2.2.1
          · rw [u3, ← hp3]
            refine hpR.2.2.2.2.2.2.2.2.2.2.cgq (S' := ml_sa S4 27 (pr_k S) (nI e4)) ?_ (fun q j x y z => ho q j (by omega)) (fun j x y => ho 35 j (by omega))
            exact ⟨fun _ _ _ _ => rfl, fun q _ _ _ h4 _ => funext fun j => ho q j (by omega)⟩
          · rw [u3, ho 32 _ (by omega)]
            exact hsrt.1
        · cases h1
      · cases h1
    · cases h1
  · rename_i g
    unfold pe_one at h1
    obtain ⟨e2, c2, S2, h3, h1⟩ := pr_b_ok h1
    obtain ⟨gn, -⟩ := (pe_left_ok h3).2
    obtain ⟨-, q1, q2, hR⟩ := pe_left_R h3 hE0
    have hc : c < n := lx_kind_lt (T := T) (by rw [gn.1]; decide)
    have hM : pe_M1 n (pe_0 S (pr_k S) c) (pr_k S) c2 S2 := hR.M (by omega)
    have hp3 : pr_p S2 = pr_p S := hR.2.2.2.2.1
    split at h1
    · rename_i g4
      obtain ⟨t3, t4⟩ := lx_tk (T := T) (n := n) (c := c2) (by rw [g4]; decide)
      obtain ⟨e4, c4, S4, h5, h1⟩ := pr_b_ok h1
      have hM1 := hM.step (c2 := lx_next T n c2) (by omega) t4
      obtain ⟨hM2, u1, u2, u3, u4, u5, hpR⟩ := hM1.rhs h5 (Or.inl rfl) (fun e => absurd e (by omega))
      have h' := Sum.inr.inj (Option.some.inj h1)
      cases h'
      have ho : ∀ q j, q ≠ 27 → (ml_sa S4 27 (pr_k S) (nI e4)).2 q j = S4.2 q j := fun q j hq => by rw [ml_sa_a, if_neg hq]
      have e34 : (ml_sa S4 27 (pr_k S) (nI e4)).2 34 = S4.2 34 := funext fun j => ho 34 j (by omega)
      refine pe_end_ok hE hB hM2 hc (by omega) h2 (by rw [u3]; omega) (by rw [u3]; exact u2) ?_ ?_ (fun u => absurd u g) (fun _ => ?_)
      · rw [u3, e34, ← hp3]
        exact hpR.2.2.2.2.2.2.2.2.2.1
      · rw [u3, ← hp3]
        refine hpR.2.2.2.2.2.2.2.2.2.2.cgq (S' := ml_sa S4 27 (pr_k S) (nI e4)) ?_ (fun q j x y z => ho q j (by omega)) (fun j x y => ho 35 j (by omega))
        exact ⟨fun _ _ _ _ => rfl, fun q _ _ _ h4 _ => funext fun j => ho q j (by omega)⟩
      · rw [u5, q2]
        rfl
    · cases h1
