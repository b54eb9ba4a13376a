/-! a node that is read: its facts -/
set_option maxRecDepth 100000
theorem loc_k {P : Nat → Nat} {e : Nat} : ∀ m q, P q ≤ e → e < P (q + m) → ∃ k, q ≤ k ∧ k < q + m ∧ P k ≤ e ∧ e < P (k + 1) := by
  intro m
  induction m with
  | zero => intro q h1 h2; exact absurd h2 (by rw [Nat.add_zero]; omega)
  | succ m ih =>
    intro q h1 h2
    rcases Nat.lt_or_ge e (P (q + 1)) with u | u
    · exact ⟨q, Nat.le_refl _, by omega, h1, u⟩
    · obtain ⟨k, a, b, c, d⟩ := ih (q + 1) u (by rw [show q + 1 + m = q + (m + 1) by omega]; exact h2)
      exact ⟨k, by omega, by omega, c, d⟩
theorem mono_k {P : Nat → Nat} {q q' : Nat} (h : ∀ k, q ≤ k → k < q' → P k < P (k + 1)) : ∀ m x, q ≤ x → x + m ≤ q' → P x ≤ P (x + m) := by
  intro m
  induction m with
  | zero => intro x _ _; exact Nat.le_refl _
  | succ m ih =>
    intro x a b
    have := ih x a (by omega)
    have := h (x + m) (by omega) (by omega)
    rw [← Nat.add_assoc]
    omega
theorem nf_P.b {T : Nat → Int32} {n q q' p p' l l' : Nat} {S : MS} (h : nf_P T n S q q' p p' l l') (hq : q ≤ q') : ∃ P L : Nat → Nat, (P q = p ∧ P q' = p' ∧ L q = l ∧ L q' = l') ∧ (∀ x, q ≤ x → x ≤ q' → p ≤ P x ∧ P x ≤ p' ∧ l ≤ L x ∧ L x ≤ l') ∧ ∀ k, q ≤ k → k < q' → ∃ c, pe_W T n S k c (P k) (P (k + 1)) (L k) (L (k + 1)) := by
  obtain ⟨P, L, h1, h2, h3, h4, h5⟩ := h
  refine ⟨P, L, ⟨h1, h2, h3, h4⟩, fun x a b => ?_, h5⟩
  have mP : ∀ k, q ≤ k → k < q' → P k < P (k + 1) := fun k a b => by
    obtain ⟨c, w⟩ := h5 k a b
    exact w.2.2.2.2.1
  have mL : ∀ k, q ≤ k → k < q' → L k < L (k + 1) := fun k a b => by
    obtain ⟨c, w⟩ := h5 k a b
    exact w.2.2.2.2.2.2.2.1
  have r1 := mono_k mP (x - q) q (Nat.le_refl _) (by omega)
  have r2 := mono_k mP (q' - x) x a (by omega)
  have r3 := mono_k mL (x - q) q (Nat.le_refl _) (by omega)
  have r4 := mono_k mL (q' - x) x a (by omega)
  rw [show q + (x - q) = x by omega] at r1 r3
  rw [show x + (q' - x) = q' by omega] at r2 r4
  omega
/-- the clocks of a judged equation's expressions -/
theorem nf_J.nq {T : Nat → Int32} {n k c p1 p2 l1 l2 : Nat} {S : MS} {A C : Nat → Int32} (hW : pe_W T n S k c p1 p2 l1 l2) (hp2 : p2 < 2 ^ 31) (hv : nq_v S) (hb : pr_v S ≤ 6000) (hJ : nf_J S A C k p1 p2 l1 l2) : ∀ m e, e < m → p1 ≤ e → e < p2 → nq S (C e) := by
  have w10 := hW.2.2.2.2.2.2.2.2.2.1
  intro m
  induction m with
  | zero => intro e h; omega
  | succ m ih =>
    intro e h1 h2 h3
    obtain ⟨k1, k2⟩ := (w10 e h2 h3).2.kids (by omega)
    refine jc_nq hv hb k1 (fun x hx => ?_) (hJ.1 e h2 h3).2
    have g3 := ((w10 e h2 h3).2.kl (by omega)).2.1
    have := ((pw_k_mem _ _ g3).2 x hx).1
    have := (w10 e h2 h3).1
    have := k2 x hx
    exact ih x (by omega) (by omega) (by omega)
theorem nd_nf {T : Nat → Int32} {n f c e c' : Nat} {S S' : MS} (h : nd T n f c S = some (.inr (e, c', S'))) (hI : nd_I n c S) (hT : S.2 0 = T) (hpr : ∀ e, e < pr_p S → S.2 38 e = nI (e + 1 - lw (S.2 34) e)) (h15 : 0 < pr_N S → S.2 15 (pr_N S) = S.1 30) :
    (∃ i o, nf T n S' (pr_N S) (pr_v S) (pr_v S') i o (pr_k S) (pr_k S') (pr_p S) (pr_p S') (pr_l S) (pr_l S')) ∧ nk (pr_N S) (pr_v S) (pr_k S) (pr_l S) (pr_p S) S S' ∧ S'.2 15 (pr_N S + 1) = S'.1 30 ∧ (∀ e, e < pr_p S' → S'.2 38 e = nI (e + 1 - lw (S'.2 34) e)) ∧ pr_v S ≤ pr_v S' ∧ pr_k S ≤ pr_k S' ∧ pr_p S ≤ pr_p S' ∧ pr_l S ≤ pr_l S' := by
  obtain ⟨-, hI9, -, -, -⟩ := nd_ok h hI hT
  have hJ := hI.1
  have hn := hI.2.2.2.2.1
  have hab := hI.2.1
  obtain ⟨u1, u2, u3, u4, u5, u6, u7, u8, u9⟩ := hJ.1.N
  have hN59 : pr_N S ≠ 59 := fun q => by
    unfold nd at h
    split at h
    · cases h
    · cases h
  unfold nd at h
  split at h
  · rename_i g1
    obtain ⟨t1, t2⟩ := lx_tkw g1
    generalize lx_next T n c = c1 at *
    split at h
    · split at h
      · cases h
      obtain ⟨e5, c5, S5, h5, h⟩ := pr_b_ok h
      unfold nd_bd at h
      split at h
      · rename_i g3
        obtain ⟨e6, c6, S6, h6, h⟩ := pr_b_ok h
        obtain ⟨q1, q2, q3, q4, hM⟩ := nd_B hI hT (Nat.le_of_succ_le t1) t2 h5 g3
        have ek5 : pr_k S5 = pr_k S := hM.2.2.2.1
        obtain ⟨hM6, b4, b5, b6, b7, b8⟩ := nd_C hM h6
        obtain ⟨hI0, ha0, px0⟩ := nd_A (T := T) hI (Nat.le_of_succ_le t1) t2
        have hgx : gx S5 := nd_hd_gx h5 hI0 ((px0.2 0 (Or.inl rfl)).trans hT) ha0
        have hz5 := (nd_hd_ok h5 hI0 ((px0.2 0 (Or.inl rfl)).trans hT) ha0).2.2.2.2.1
        obtain ⟨hE3, hJ3, hB3, ek3, eN3, -⟩ := id hM
        obtain ⟨hE6, hJ6, hB6, -, eN6, i, o, m1, m2, m3, m4, m5, m6, m7⟩ := id hM6
        have ea0 : pr_a S5 = pr_v S := q2.a.trans ha0
        have ea3 : pr_a (nd_3 S5) = pr_v S := by
          obtain ⟨-, -, -, -, -, i9, o9, -, -, n3, -⟩ := hM
          rw [pr_a, eN3, n3, nI_clamp (by omega)]
        have ea6 : pr_a S6 = pr_v S := b5.a.trans ea3
        have ev6 : pr_v S6 = pr_v S5 := b5.v.trans rfl
        have eN5 : pr_N S5 = pr_N S := q2.N
        have f5 : ∀ x, x ≠ 19 → S5.1 x = S.1 x := fun x hx => q2.1 x hx
        have ep3 : pr_p (nd_3 S5) = pr_p S := by
          show (S5.1 40).toNatClampNeg = _
          rw [f5 40 (by omega)]
          rfl
        have el3 : pr_l (nd_3 S5) = pr_l S := by
          show (S5.1 31).toNatClampNeg = _
          rw [f5 31 (by omega)]
          rfl
        have o3 : ∀ x, ¬ (10 ≤ x ∧ x ≤ 17) → ¬ (20 ≤ x ∧ x ≤ 24) → (nd_3 S5).2 x = S.2 x := fun x hx hx2 => by
          rw [nd_3_o (by omega) (by omega), q2.2.1 x (by omega) (by omega)]
          funext j
          rw [nd_0_2, if_neg (by omega), if_neg (by omega), if_neg (by omega)]
        have hN0 : nx_I (pr_N S) (pr_p (nd_3 S5)) (nd_3 S5).2 (nd_3 S5) := by
          refine ⟨eN3, Nat.le_refl _, ?_, ?_, fun e a b => by omega, fun e he => ?_, fun _ _ _ _ => rfl⟩
          · rw [Nat.sub_self, nd_3_2, if_pos ⟨rfl, eN5.symm⟩]
            rfl
          · rw [Nat.sub_self, nd_3_2, if_neg (by omega), if_pos ⟨rfl, eN5.symm⟩]
            rfl
          · rw [o3 38 (by omega) (by omega), o3 34 (by omega) (by omega)]
            exact hpr e (by rw [ep3] at he; exact he)
        have hW0 : nf_P T n (nd_3 S5) (pr_k (nd_3 S5)) (pr_k (nd_3 S5)) (pr_p (nd_3 S5)) (pr_p (nd_3 S5)) (pr_l (nd_3 S5)) (pr_l (nd_3 S5)) := ⟨fun _ => pr_p (nd_3 S5), fun _ => pr_l (nd_3 S5), rfl, rfl, rfl, rfl, fun k a b => by omega⟩
        obtain ⟨hP6, hX6, hG6, hO6, hp6, hl6⟩ := pe_eqs_P (N := pr_N S) (p0 := pr_p (nd_3 S5)) (U := (nd_3 S5).2) (S0 := nd_3 S5) (k0 := pr_k (nd_3 S5)) (l0 := pr_l (nd_3 S5)) _ _ _ _ _ _ h6 hE3 hB3 (Nat.le_refl _) (Nat.le_refl _) (Nat.le_refl _) hW0 hN0 pq_same.rf (fun v _ => by rw [Nat.sub_self]; exact (Int32.add_zero _).symm) pf_old.rf
        rw [ek3, ep3, el3] at hP6 hO6
        rw [ep3] at hX6 hp6
        rw [el3] at hG6 hl6
        unfold nd_en at h
        split at h
        · rename_i hgv
          split at h
          · cases h
          · rename_i S7 hj
            have h' := Sum.inr.inj (Option.some.inj h)
            obtain ⟨j1, j2⟩ := nd_jg_js _ _ _ _ hj
            have eN7 : pr_N S7 = pr_N S := by
              rw [pr_N, j1 18 (by omega)]
              exact eN6
            rw [eN7] at h'
            have e3 : S' = ml_sf S7 18 (nI (pr_N S + 1)) := (congrArg (fun x => x.2.2) h').symm
            have sf : ∀ x, x ≠ 18 → x ≠ 42 → S'.1 x = S6.1 x := fun x hx hx2 => by
              rw [e3, ml_sf_f, if_neg hx, j1 x hx2]
              rfl
            have s7 : ∀ x, S'.2 x = S7.2 x := fun x => by rw [e3]; rfl
            have sa : ∀ x, x ≠ 36 → x ≠ 41 → x ≠ 15 → S'.2 x = S6.2 x := fun x a b c => by
              rw [s7, j2 x a b]
              funext j
              unfold nd_4
              rw [ml_sa_a, if_neg c]
            have s15 : ∀ j, S'.2 15 j = if j = pr_N S + 1 then S6.1 30 else S6.2 15 j := fun j => by
              rw [s7, j2 15 (by omega) (by omega)]
              unfold nd_4
              rw [ml_sa_a, if_pos rfl, eN6]
            have ev' : pr_v S' = pr_v S6 := by rw [pr_v, pr_v, sf 19 (by omega) (by omega)]
            have ek' : pr_k S' = pr_k S6 := by rw [pr_k, pr_k, sf 30 (by omega) (by omega)]
            have ep' : pr_p S' = pr_p S6 := by rw [pr_p, pr_p, sf 40 (by omega) (by omega)]
            have el' : pr_l S' = pr_l S6 := by rw [pr_l, pr_l, sf 31 (by omega) (by omega)]
            obtain ⟨hV6, z1, z2, z3, z4, z5, z6, z7, z8, z9, z10⟩ := id hE6
            obtain ⟨w1, w2, w3, w4, w5, w6, w7, w8, w9⟩ := hV6.N
            have hkk : pr_k S ≤ pr_k S6 := Nat.le_of_lt b6
            obtain ⟨P, L, hPL, hB, hWk⟩ := hP6.b hkk
            rw [ek5] at hj
            obtain ⟨jo, jJ⟩ := nd_jg_J (T := T) (n := n) (P := P) (L := L) (pr_k S6 - pr_k S) (pr_k S) (nd_4 S6) S7 hj (fun x a b => by have := hB x a (by omega); omega) (fun x a b => hWk x a (by omega))
            rw [show pr_k S + (pr_k S6 - pr_k S) = pr_k S6 by omega] at jo jJ
            have hqv4 : nq_v (nd_4 S6) := fun v r1 r2 => by
              have r1' : pr_v S ≤ v := by rw [← ea6]; exact r1
              have r2' : v < pr_v S5 := by rw [← ev6]; exact r2
              obtain ⟨-, x2, -⟩ := hgx.2 v (by rw [ea0]; exact r1') r2'
              rw [ea0] at x2
              have e22 : (nd_4 S6).2 22 = S5.2 22 := by
                show S6.2 22 = _
                rw [b5.2 22 (by omega) (by omega) (by omega) (by omega) (by omega), nd_3_o (by omega) (by omega)]
              have e24 : (nd_4 S6).2 24 = S5.2 24 := by
                show S6.2 24 = _
                rw [b5.2 24 (by omega) (by omega) (by omega) (by omega) (by omega), nd_3_o (by omega) (by omega)]
              have e4 : pr_a (nd_4 S6) = pr_v S := ea6
              rw [e4, e22, e24]
              exact x2
            have hf31 : pr_N S < 2 ^ 31 := by omega
            have e12' : S'.2 12 (pr_N S) = nI (pr_v S) := by rw [sa 12 (by omega) (by omega) (by omega)]; exact m3
            have e12'' : S'.2 12 (pr_N S + 1) = nI (pr_v S6) := by rw [sa 12 (by omega) (by omega) (by omega)]; exact m7
            have e13' : S'.2 13 (pr_N S) = nI i := by rw [sa 13 (by omega) (by omega) (by omega)]; exact m4
            have ei6 : pr_i S6 = i := by rw [pr_i, eN6, m4, nI_clamp (by omega)]
            have hnv : nv (nd_4 S6) (vw S' (pr_N S)) (pr_p S6) (pr_k S) (pr_k S6) (pr_l S) (pr_l S6) := by
              refine ⟨⟨?_, ?_, ?_, ?_, ?_⟩, fun x g hx _ => ?_, fun x v hx _ => ?_, fun x k hx _ _ => ?_, fun k _ _ => ?_, fun j _ _ => ?_, fun x e hx hx2 _ => ?_⟩
              · rw [vw_N hf31]; exact eN6.symm
              · rw [vw_a hf31, e12', jg_n, nI_clamp (by omega)]; exact ea6.symm
              · rw [vw_v, e12'', jg_n, nI_clamp (by omega)]; rfl
              · rw [vw_i hf31, e13', jg_n, nI_clamp (by omega)]; exact ei6.symm
              · show S'.2 0 = S6.2 0
                rw [sa 0 (by omega) (by omega) (by omega)]
              · show S'.2 x g = _
                rw [s7, j2 x (by omega) (by omega)]
              · show S'.2 x v = _
                rw [s7, j2 x (by omega) (by omega)]
              · show S'.2 x k = _
                rw [s7, j2 x (by omega) (by omega)]
              · show S'.2 26 k = _
                rw [s7, j2 26 (by omega) (by omega)]
              · show S'.2 28 j = _
                rw [s7, j2 28 (by omega) (by omega)]
              · show S'.2 x e = _
                rw [s7, j2 x (by omega) (by omega)]
            have hT6 : (nd_4 S6).2 0 = T := by
              show S6.2 0 = T
              rw [b5.T]
              exact (q3.2 0 (Or.inl rfl)).trans hT
            have hnn4 : nn_g (nd_4 S6) := hJ6.2.2
            have hv4 : pr_v (nd_4 S6) ≤ 6000 := w4
            have hN4 : pr_N (nd_4 S6) < 60 := w2
            have hQ : ∀ k, pr_k S ≤ k → k < pr_k S6 → ∀ e, P k ≤ e → e < P (k + 1) → nq (nd_4 S6) (S7.2 36 e) := fun k r1 r2 e r3 r4 => by
              obtain ⟨c9, w⟩ := hWk k r1 r2
              have := hB (k + 1) (by omega) (by omega)
              exact nf_J.nq (S := nd_4 S6) (A := S7.2 41) (C := S7.2 36) w (by omega) hqv4 hv4 (jJ k r1 r2) (e + 1) e (by omega) r3 r4
            have hlt' : pr_v S ≤ pr_v S6 := by omega
            have hc6 : c6 < n := lx_kind_lt (T := T) (by rw [b7.1]; decide)
            refine ⟨⟨i, o, ⟨e12', by rw [e12'', ev'], e13', by rw [sa 14 (by omega) (by omega) (by omega)]; exact m5, ?_, ?_⟩, ⟨m1, m2, by rw [ev']; exact m6, ?_, by rw [ek']; exact b6, by rw [ev']; exact w4, by omega, by rw [ep']; omega, by rw [el']; omega, by rw [ek']; omega, hn, ?_, by rw [ep']; exact hp6, by rw [el']; exact hl6⟩, ⟨P, L, ?_, ?_, ?_⟩, ?_, ⟨?_, ?_⟩, ?_, ?_, ?_⟩, ⟨?_, ?_, ?_, ?_, ?_, ?_, ?_, ?_⟩, ?_, ?_, by rw [ev']; exact hlt', by rw [ek']; exact hkk, by rw [ep']; exact hp6, by rw [el']; exact hl6⟩
            · rw [s15, if_neg (by omega), b5.2 15 (by omega) (by omega) (by omega) (by omega) (by omega), nd_3_2, if_neg (by omega), if_neg (by omega), if_pos ⟨rfl, eN5.symm⟩, f5 30 (by omega)]
              exact hI.2.2.2.2.2.2.2.1
            · rw [s15, if_pos rfl, ek']
              exact z5
            · rw [ev', ev6]
              have := hgx.1
              rw [ea0] at this
              exact this
            · rw [sa 0 (by omega) (by omega) (by omega)]
              exact hT6
            · rw [ek', ep', el']
              exact hPL
            · intro k r1 r2
              rw [ek'] at r2
              rw [ep', el']
              have g1 := hB k r1 (by omega)
              have g2 := hB (k + 1) (by omega) (by omega)
              exact ⟨g1.1, g2.2.1, g1.2.2.1, g2.2.2.2⟩
            · intro k r1 r2
              rw [ek'] at r2
              obtain ⟨c9, w⟩ := hWk k r1 r2
              have g1 := hB k r1 (by omega)
              have g2 := hB (k + 1) (by omega) (by omega)
              have w4 : pe_W T n (nd_4 S6) k c9 (P k) (P (k + 1)) (L k) (L (k + 1)) := w
              refine ⟨c9, w4.nv hnv g2.2.1 r1 r2 g1.2.2.1 g2.2.2.2, ?_⟩
              exact nf_J.nv (A := S7.2 41) (C := S7.2 36) hnv w4 g2.2.1 (by omega) (by omega) hT6 r1 r2 g1.2.2.1 g2.2.2.2 hv4 hN4 hnn4 (hQ k r1 r2) (fun e _ _ => ⟨by show S'.2 41 e = _; rw [s7], by show S'.2 36 e = _; rw [s7]⟩) (jJ k r1 r2)
            · intro e r1 r2
              rw [ep'] at r2
              refine ⟨?_, ?_, ?_⟩
              · obtain ⟨k, k1, k2, k3, k4⟩ := loc_k (P := P) (e := e) (pr_k S6 - pr_k S) (pr_k S) (by rw [hPL.1]; exact r1) (by rw [show pr_k S + (pr_k S6 - pr_k S) = pr_k S6 by omega, hPL.2.1]; exact r2)
                rw [s7]
                exact (hQ k k1 (by omega) e k3 k4).nv hnv
              · unfold nx_E
                rw [sa 32 (by omega) (by omega) (by omega), sa 37 (by omega) (by omega) (by omega)]
                exact hX6.2.2.2.2.1 e r1 r2
              · rw [sa 38 (by omega) (by omega) (by omega), sa 34 (by omega) (by omega) (by omega)]
                exact hX6.2.2.2.2.2.1 e r2
            · rw [ep', sa 32 (by omega) (by omega) (by omega), sa 17 (by omega) (by omega) (by omega)]
              exact hX6.2.2.1
            · rw [ep', sa 32 (by omega) (by omega) (by omega), sa 16 (by omega) (by omega) (by omega)]
              exact hX6.2.2.2.1
            · obtain ⟨⟨v1, v2, v3, v4, v5⟩, -, v7, -⟩ := hnv
              intro v s1 s2
              rw [v2] at s1 ⊢
              rw [v3] at s2
              rw [v7 22 v (Or.inl rfl) s2]
              rcases hqv4 v s1 s2 with y | ⟨w, w1, w2, w3, w4⟩
              · exact Or.inl y
              · exact Or.inr ⟨w, w1, w2, w3, by rw [v7 24 _ (Or.inr rfl) (by omega)]; exact w4⟩
            · intro v r1 r2
              rw [ev'] at r2
              have e24 : S'.2 24 = S5.2 24 := by
                rw [sa 24 (by omega) (by omega) (by omega), b5.2 24 (by omega) (by omega) (by omega) (by omega) (by omega), nd_3_o (by omega) (by omega)]
              have e22 : S'.2 22 = S5.2 22 := by
                rw [sa 22 (by omega) (by omega) (by omega), b5.2 22 (by omega) (by omega) (by omega) (by omega) (by omega), nd_3_o (by omega) (by omega)]
              obtain ⟨x1, x2, x3⟩ := hgx.2 v (by rw [ea0]; exact r1) (by rw [← ev6]; exact r2)
              refine ⟨by rw [e24]; exact hz5 v r1 (by rw [← ev6]; exact r2), ?_, fun r3 => ?_⟩
              · have hck : md_ck S5 (pr_v S) (pr_v S5) := fun w s1 s2 => by
                  obtain ⟨-, y2, -⟩ := hgx.2 w (by rw [ea0]; exact s1) s2
                  rw [ea0] at y2
                  rcases y2 with y | ⟨w9, w1, w2, w3, w4⟩
                  · exact Or.inl y
                  · exact Or.inr ⟨w9, w1, w2, w3⟩
                rw [gx_dep hck (fun j _ _ => by rw [e22]) (v + 1) v r1 (by rw [← ev6]; exact r2)]
                rw [ea0] at x3
                exact x3
              · have g1 := nd_gv_all _ _ hgv v (by rw [ea6, ei6]; exact r3) (by rw [ea6, ei6]; omega)
                have g2 := hG6 v (by omega)
                have e23 : (nd_3 S5).2 23 v = 0 := by rw [nd_3_o (by omega) (by omega)]; exact x1
                rw [g1, e23, Int32.zero_add, ea6] at g2
                have g3 := gc_le (B := S6.2 28) (a := pr_v S) (v := v) (l := pr_l S) (pr_l S6 - pr_l S)
                rw [sa 28 (by omega) (by omega) (by omega), el']
                exact ((nI_eq (a := 1) (by omega) (by omega)).1 g2).symm
            · obtain ⟨⟨v1, v2, v3, v4, v5⟩, v6, -⟩ := hnv
              intro g hg
              rw [v1] at hg
              rw [v6 12 g (by omega) hg, v6 13 g (by omega) hg, v6 14 g (by omega) hg, v3]
              exact hnn4 g hg
            · intro x j hx hj2
              rw [sa x (by omega) (by omega) (by omega)]
              have p1 : x = 10 ∨ x = 11 ∨ x = 13 ∨ x = 14 → S6.2 x j = S.2 x j := fun hx => by
                rw [b5.2 x (by omega) (by omega) (by omega) (by omega) (by omega), nd_3_o (by omega) (by omega)]
                rcases Nat.lt_or_ge x 12 with y | y
                · rw [q2.2.1 x (by omega) (by omega), nd_0_2, if_neg (by omega), if_neg (by omega), if_neg (by omega)]
                · rw [q2.2.2.1 x j (by omega) (by show j ≠ pr_N S; omega), nd_0_2, if_neg (by omega), if_neg (by omega), if_neg (by omega)]
              rcases Nat.lt_or_ge x 15 with y | y
              · exact p1 (by omega)
              · rw [hX6.2.2.2.2.2.2 x j (by omega) hj2, nd_3_2, if_neg (by omega), if_neg (by omega), if_neg (by omega), if_neg (by omega), q2.2.1 x (by omega) (by omega), nd_0_2, if_neg (by omega), if_neg (by omega), if_neg (by omega)]
            · intro x j hx hj2 h0
              rcases hx with rfl | rfl
              · rw [sa 12 (by omega) (by omega) (by omega), b5.2 12 (by omega) (by omega) (by omega) (by omega) (by omega), nd_3_12, eN5, if_neg (by omega), q2.2.1 12 (by omega) (by omega), nd_0_2]
                by_cases y : j = pr_N S
                · rw [if_pos ⟨rfl, y⟩, y, u3, u5, hab]
                · rw [if_neg (by omega), if_neg (by omega), if_neg (by omega)]
              · rw [s15, if_neg (by omega), b5.2 15 (by omega) (by omega) (by omega) (by omega) (by omega), nd_3_2, if_neg (by omega), if_neg (by omega)]
                by_cases y : j = pr_N S
                · rw [if_pos ⟨rfl, by rw [eN5]; exact y⟩, y, f5 30 (by omega), h15 h0]
                · rw [if_neg (by omega), if_neg (by omega), q2.2.1 15 (by omega) (by omega), nd_0_2, if_neg (by omega), if_neg (by omega), if_neg (by omega)]
            · intro x j hx hj2
              rw [sa x (by omega) (by omega) (by omega), b5.2 x (by omega) (by omega) (by omega) (by omega) (by omega), nd_3_o (by omega) (by omega), q2.2.2.2 x j (by omega) hj2, nd_0_2, if_neg (by omega), if_neg (by omega), if_neg (by omega)]
            · intro x j hx hj2
              rw [sa x (by omega) (by omega) (by omega), hO6.1 x j (by omega) hj2, o3 x (by omega) (by omega)]
            · intro j hj2
              rw [sa 26 (by omega) (by omega) (by omega), hO6.2.1 j hj2, o3 26 (by omega) (by omega)]
            · intro j hj2
              rw [sa 28 (by omega) (by omega) (by omega), hO6.2.2.1 j hj2, o3 28 (by omega) (by omega)]
            · intro x e hx hx2 he
              rcases Decidable.em (x = 36 ∨ x = 41) with y | y
              · have hp0 : e < P (pr_k S) := by rw [hPL.1]; exact he
                rcases y with rfl | rfl
                · rw [s7, (jo e (Or.inl hp0)).2]
                  show S6.2 36 e = _
                  rw [hO6.2.2.2 36 e (by omega) (by omega) he, o3 36 (by omega) (by omega)]
                · rw [s7, (jo e (Or.inl hp0)).1]
                  show S6.2 41 e = _
                  rw [b5.2 41 (by omega) (by omega) (by omega) (by omega) (by omega), o3 41 (by omega) (by omega)]
              · rw [sa x (by omega) (by omega) (by omega), hO6.2.2.2 x e (by omega) (by omega) he, o3 x (by omega) (by omega)]
            · rw [sa 0 (by omega) (by omega) (by omega)]
              show S6.2 0 = _
              rw [b5.T]
              exact (q3.2 0 (Or.inl rfl))
            · rw [s15, if_pos rfl, sf 30 (by omega) (by omega)]
            · intro e he
              rw [ep'] at he
              rw [sa 38 (by omega) (by omega) (by omega), sa 34 (by omega) (by omega) (by omega)]
              exact hX6.2.2.2.2.2.1 e he
        · cases h
      · cases h
    · cases h
  · cases h
/-- all nodes: what is known of each -/
theorem nds_nfs {T : Nat → Int32} {n f0 : Nat} : ∀ f c e c' S S' A Q P L, nds T n f0 f c S = some (.inr (e, c', S')) → nd_I n c S → S.2 0 = T → nfs T n S A Q P L → ∃ A' Q' P' L', nfs T n S' A' Q' P' L' := by
  intro f
  induction f with
  | zero => intro c e c' S S' A Q P L h; cases h
  | succ f ih =>
    intro c e c' S S' A Q P L h hI hT hF
    unfold nds at h
    obtain ⟨e1, c1, S1, h1, h⟩ := pr_b_ok h
    obtain ⟨a1, a2, a3, a4, a5⟩ := nd_ok h1 hI hT
    obtain ⟨⟨f1, f2, f3, f4⟩, f5, f6, f7⟩ := hF
    obtain ⟨⟨i, o, g1⟩, g2, g3, g4, g5, g6, g7, g8⟩ := nd_nf h1 hI hT f7 f6
    have mono : ∀ m f, f + m = pr_N S → A f ≤ pr_v S ∧ Q f ≤ pr_k S ∧ P f ≤ pr_p S ∧ L f ≤ pr_l S := by
      intro m
      induction m with
      | zero => intro f hf; rw [Nat.add_zero] at hf; subst hf; omega
      | succ m im =>
        intro f hf
        have := im (f + 1) (by omega)
        obtain ⟨i9, o9, g9⟩ := f5 f (by omega)
        obtain ⟨-, ⟨b1, b2, b3, b4, b5, b6, b7, b8, b9, b10, b11, b12, b13, b14⟩, -⟩ := g9
        omega
    have hN60 : pr_N S ≤ 60 := by have := hI.1.1.N.2.1; omega
    have hF1 : nfs T n S1 (fun x => if x = pr_N S + 1 then pr_v S1 else A x) (fun x => if x = pr_N S + 1 then pr_k S1 else Q x) (fun x => if x = pr_N S + 1 then pr_p S1 else P x) (fun x => if x = pr_N S + 1 then pr_l S1 else L x) := by
      refine ⟨⟨if_pos a5, if_pos a5, if_pos a5, if_pos a5⟩, fun x hx => ?_, fun _ => by rw [a5]; exact g3, g4⟩
      rw [a5] at hx
      show ∃ i o, nf T n S1 x (if x = pr_N S + 1 then pr_v S1 else A x) (if x + 1 = pr_N S + 1 then pr_v S1 else A (x + 1)) i o (if x = pr_N S + 1 then pr_k S1 else Q x) (if x + 1 = pr_N S + 1 then pr_k S1 else Q (x + 1)) (if x = pr_N S + 1 then pr_p S1 else P x) (if x + 1 = pr_N S + 1 then pr_p S1 else P (x + 1)) (if x = pr_N S + 1 then pr_l S1 else L x) (if x + 1 = pr_N S + 1 then pr_l S1 else L (x + 1))
      have hx1 : ∀ u v : Nat, (if x = pr_N S + 1 then u else v) = v := fun u v => if_neg (by omega)
      rw [hx1, hx1, hx1, hx1]
      rcases Nat.lt_or_ge x (pr_N S) with q | q
      · have hx2 : ∀ u v : Nat, (if x + 1 = pr_N S + 1 then u else v) = v := fun u v => if_neg (by omega)
        rw [hx2, hx2, hx2, hx2]
        obtain ⟨i9, o9, g9⟩ := f5 x q
        have := mono (pr_N S - (x + 1)) (x + 1) (by omega)
        exact ⟨i9, o9, g9.keep g2 hN60 q this.1 this.2.1 this.2.2.2 this.2.2.1⟩
      · have ex : x = pr_N S := by omega
        subst ex
        rw [if_pos rfl, if_pos rfl, if_pos rfl, if_pos rfl, f1, f2, f3, f4]
        exact ⟨i, o, g1⟩
    split at h
    · have h' := Sum.inr.inj (Option.some.inj h)
      cases h'
      exact ⟨_, _, _, _, hF1⟩
    · exact ih _ _ _ _ _ _ _ _ _ h a2 ((a4.2 0 (Or.inl rfl)).trans hT) hF1
