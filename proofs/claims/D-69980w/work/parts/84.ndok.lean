/-! what a node leaves -/
set_option maxRecDepth 100000
theorem nd_jg_I {n k c6 c7 b N : Nat} {S6 S7 : MS} (hM : nd_M n c6 b k N S6) (hN : N < 59) (hb : b ≤ 6000) (hok : ∃ p m, S6.2 10 N = nI p ∧ S6.2 11 N = nI m ∧ p + m ≤ n) (h6 : c6 ≤ c7) (h7 : c7 ≤ n) (hv : pr_v S6 ≤ c7)
    (h1 : ∀ q, q ≠ 42 → S7.1 q = S6.1 q) (h2 : ∀ q, q ≠ 36 → q ≠ 41 → q ≠ 15 → S7.2 q = S6.2 q) : nd_I n c7 (ml_sf S7 18 (nI (N + 1))) := by
  obtain ⟨hpn, hJ, hB, hk, hpN, i, o, m1, m2, m3, m4, m5, m6, m7⟩ := hM
  obtain ⟨hV, b1, b2, b3, b4, b5, b6, b7, b8, b9, b10⟩ := id hpn
  obtain ⟨v1, v2, v3, v4, v5, v6, v7, v8, v9⟩ := hV.N
  generalize hS : ml_sf S7 18 (nI (N + 1)) = S8
  have f18 : S8.1 18 = nI (N + 1) := by rw [← hS, ml_sf_f, if_pos rfl]
  have ff : ∀ q, q ≠ 42 → q ≠ 18 → S8.1 q = S6.1 q := fun q a c => by rw [← hS, ml_sf_f, if_neg c, h1 q a]
  have fa : ∀ q, q ≠ 36 → q ≠ 41 → q ≠ 15 → S8.2 q = S6.2 q := fun q a b c => by rw [← hS]; exact h2 q a b c
  have eN : pr_N S8 = N + 1 := by rw [pr_N, f18, nI_clamp (by omega)]
  have ev : pr_v S8 = pr_v S6 := by rw [pr_v, pr_v, ff 19 (by omega) (by omega)]
  have e12 : S8.2 12 (N + 1) = nI (pr_v S6) := by rw [fa 12 (by omega) (by omega) (by omega)]; exact m7
  have ea : pr_a S8 = pr_v S6 := by rw [pr_a, eN, e12, nI_clamp (by omega)]
  have ek : pr_k S8 = pr_k S6 := by rw [pr_k, pr_k, ff 30 (by omega) (by omega)]
  have ep : pr_p S8 = pr_p S6 := by rw [pr_p, pr_p, ff 40 (by omega) (by omega)]
  have el : pr_l S8 = pr_l S6 := by rw [pr_l, pr_l, ff 31 (by omega) (by omega)]
  rw [hpN] at v8
  refine ⟨⟨⟨hV.1, N + 1, pr_v S6, pr_v S6, f18, by omega, by rw [ff 19 (by omega) (by omega)]; exact v3, v4, e12, Nat.le_refl _, fun q hq => ?_, fun q hq => ?_, fun q a b => by omega⟩, fun v hv => ?_, fun f hf => ?_⟩, by rw [ea, ev], by rw [ev]; exact hv, h7, b2, by rw [ep, ff 40 (by omega) (by omega)]; exact b3, by omega, by rw [ek, ff 30 (by omega) (by omega)]; exact b5, by omega, by rw [el, ff 31 (by omega) (by omega)]; exact b7, by omega, by rw [ek, el, fa 26 (by omega) (by omega) (by omega)]; exact hB⟩
  · rw [fa 20 (by omega) (by omega) (by omega), fa 21 (by omega) (by omega) (by omega)]
    exact v7 q hq
  · rw [fa 10 (by omega) (by omega) (by omega), fa 11 (by omega) (by omega) (by omega)]
    rcases Nat.lt_or_ge q N with u | u
    · exact v8 q u
    · have : q = N := by omega
      rw [this]
      exact hok
  · rw [fa 24 (by omega) (by omega) (by omega)]
    exact hJ.2.1 v (by rw [ev] at hv; exact hv)
  · rw [fa 12 (by omega) (by omega) (by omega), fa 13 (by omega) (by omega) (by omega), fa 14 (by omega) (by omega) (by omega), ev]
    rw [eN] at hf
    rcases Nat.lt_or_ge f N with u | u
    · exact hJ.2.2 f (by rw [hpN]; exact u)
    · have : f = N := by omega
      rw [this]
      exact ⟨b, i, o, m3, m4, m5, m2, m6⟩
theorem nd_ok {T : Nat → Int32} {n f c e c' : Nat} {S S' : MS} (h : nd T n f c S = some (.inr (e, c', S'))) (hI : nd_I n c S) (hT : S.2 0 = T) : e = 0 ∧ nd_I n c' S' ∧ c + 1 ≤ c' ∧ md_px S S' ∧ pr_N S' = pr_N S + 1 := by
  have hJ := hI.1
  have hn := hI.2.2.2.2.1
  have hNlt := hJ.1.N.2.1
  have hv6 := hJ.1.N.2.2.2.1
  unfold nd at h
  split at h
  · rename_i g1
    obtain ⟨t1, t2⟩ := lx_tkw g1
    split at h
    · cases h
    rename_i hN
    generalize lx_next T n c = c1 at *
    split at h
    · rename_i g2
      split at h
      · cases h
      obtain ⟨e5, c5, S5, h5, h⟩ := pr_b_ok h
      unfold nd_bd at h
      split at h
      · rename_i g3
        obtain ⟨e6, c6, S6, h6, h⟩ := pr_b_ok h
        obtain ⟨q1, q2, q3, q4, hM⟩ := nd_B hI hT (Nat.le_of_succ_le t1) t2 h5 g3
        have ek5 : pr_k S5 = pr_k S := hM.2.2.2.1
        obtain ⟨hM6, b4, b5, b6, b7, b8⟩ := nd_C hM h6
        obtain ⟨t3, t4⟩ := lx_tkw b7
        obtain ⟨t5, t6⟩ := lx_tkw g3
        obtain ⟨hI0, ha0, px0⟩ := nd_A (T := T) hI (Nat.le_of_succ_le t1) t2
        obtain ⟨-, a2, -⟩ := nd_hd_ok h5 hI0 ((px0.2 0 (Or.inl rfl)).trans hT) ha0
        unfold nd_en at h
        split at h
        · split at h
          · cases h
          · rename_i S7 hj
            have h' := Sum.inr.inj (Option.some.inj h)
            obtain ⟨j1, j2⟩ := nd_jg_js _ _ _ _ hj
            have eN7 : pr_N S7 = pr_N S := by
              rw [pr_N, j1 18 (by omega)]
              exact hM6.2.2.2.2.1
            rw [eN7] at h'
            have hv5 : pr_v S6 = pr_v S5 := b5.v.trans rfl
            have hle := lx_end_le (T := T) (n := n) (c := c1) t2
            have jf : ∀ q, q ≠ 42 → S7.1 q = S6.1 q := fun q hq => j1 q hq
            have ja : ∀ q, q ≠ 36 → q ≠ 41 → q ≠ 15 → S7.2 q = S6.2 q := fun q x y w => (j2 q x y).trans (funext fun j => by unfold nd_4; rw [ml_sa_a, if_neg w])
            have hI' := nd_jg_I (S7 := S7) (c7 := lx_next T n c6) hM6 (by omega) hv6 ?_ (Nat.le_of_succ_le t3) t4 (by have := a2.2.1; omega) jf ja
            · have e1 : e = 0 := (congrArg (fun x => x.1) h').symm
              have e2 : c' = lx_next T n c6 := (congrArg (fun x => x.2.1) h').symm
              have e3 : S' = ml_sf S7 18 (nI (pr_N S + 1)) := (congrArg (fun x => x.2.2) h').symm
              subst e1 e2 e3
              refine ⟨rfl, hI', by omega, ?_, ?_⟩
              · refine (q3.tr b5.px).tr ⟨⟨fun k hk => ?_, ?_⟩, fun k hk => ?_⟩
                · rw [ml_sf_f, if_neg (by omega)]
                  exact jf k (by omega)
                · show S7.2 12 0 = _
                  rw [ja 12 (by omega) (by omega) (by omega)]
                · exact ja k (by omega) (by omega) (by omega)
              · show (nI (pr_N S + 1)).toNatClampNeg = _
                rw [nI_clamp (by omega)]
            · refine ⟨c1, lx_end T n c1 - c1, ?_, ?_, by omega⟩
              · rw [b5.2 10 (by omega) (by omega) (by omega) (by omega) (by omega), nd_3_o (by decide) (by decide), q2.2.1 10 (by omega) (by omega), nd_0_2, if_neg (by omega), if_neg (by omega), if_pos ⟨rfl, rfl⟩]
              · rw [b5.2 11 (by omega) (by omega) (by omega) (by omega) (by omega), nd_3_o (by decide) (by decide), q2.2.1 11 (by omega) (by omega), nd_0_2, if_neg (by omega), if_pos ⟨rfl, rfl⟩]
        · cases h
      · cases h
    · cases h
  · cases h
