/-! the walk of node -/
set_option maxRecDepth 100000
theorem nd_gv_cg {S S' : MS} (h : S'.2 23 = S.2 23) : ∀ m v, nd_gv S' m v = nd_gv S m v := by
  intro m
  induction m with
  | zero => intro v; rfl
  | succ m ih =>
    intro v
    rw [nd_gv, nd_gv, ih, h]
theorem nd_jg_js : ∀ m k S S', nd_jg m k S = .inr S' → (∀ q, q ≠ 42 → S'.1 q = S.1 q) ∧ ∀ q, q ≠ 36 → q ≠ 41 → S'.2 q = S.2 q := by
  intro m
  induction m with
  | zero =>
    intro k S S' h
    have := Sum.inr.inj h
    subst this
    exact ⟨fun _ _ => rfl, fun _ _ _ => rfl⟩
  | succ m ih =>
    intro k S S' h
    rw [nd_jg] at h
    split at h
    · cases h
    · rename_i S1 h1
      obtain ⟨A, C, rfl⟩ := jg_inr h1
      obtain ⟨b1, b2⟩ := ih _ _ _ h
      refine ⟨fun q hq => (b1 q hq).trans ?_, fun q h1 h2 => (b2 q h1 h2).trans ?_⟩
      · show (if q = 42 then _ else _) = _
        rw [if_neg hq]
      · funext j
        show (ml_saA (ml_saA (ml_sf S 42 (S.2 25 k)) 41 A) 36 C).2 q j = _
        rw [ml_saA_a, if_neg h1, ml_saA_a, if_neg h2]
        rfl
section
variable {z : MZ} {T : Nat → Int32} {n : Nat}
theorem node_end {k0 c6 D b N : Nat} {S0 S6 σ : MS} {E : GH → Prop} {r : PE} (hD : 20 ≤ D) (hs : ps n c6 S6 σ) (hS : lx_S n c6 σ) (hT : S6.2 0 = T) (hM : nd_M n c6 b (pr_k S6) N S6) (hk : k0 ≤ pr_k S6) (h15 : S6.2 15 N = nI k0) (hE : nd_E T n k0 S6) (hc : c6 < n) (hN : N < 59) (hpx : md_px S0 S6) (h : nd_en T n k0 c6 S6 = some r) : ml_V z mX6_node (D, 1, (fun v σ' _ => pq_N0 n r v σ'), pq_X S0 r) 311 [(0, vR (some z.2.1))] [] σ E 1 := by
  obtain ⟨hpn, hJ, hB, -, hpN, i, o, m1, m2, m3, m4, m5, m6, m7⟩ := hM
  obtain ⟨hV, b1, b2, b3, b4, b5, b6, b7, b8, b9, b10⟩ := id hpn
  obtain ⟨v1, v2, v3, v4, v5, v6, v7, v8, v9⟩ := hV.N
  have e18 : σ.1 18 = nI N := by rw [hs.s1 18 (by omega), v1, hpN]
  have ei : pr_i S6 = i := by rw [pr_i, hpN, m4, nI_clamp (by omega)]
  have ea : pr_a S6 = b := by rw [pr_a, hpN, m3, nI_clamp (by omega)]
  have c0 : (nI N).toNatClampNeg = N := nI_clamp (by omega)
  have c1 : (nI N + 1).toNatClampNeg = N + 1 := by rw [nI_1, nI_clamp (by omega)]
  unfold nd_en at h
  rw [ea, ei] at h
  refine mbnode_311 (by rw [e18, nI_1]; exact vp_in_nI (by omega) (by decide)) (by rw [e18]; exact vp_in_nI (by omega) (by decide)) (by rw [e18]; exact vp_in_nI (by omega) (by decide)) ?_
  rw [hS.2.2.2.1, e18, c0, c1, hs.s2, m3, m4, nI_add, hs.s1 30 (by omega)]
  have h4 : ps n c6 (nd_4 S6) (ml_sa σ 15 (N + 1) (S6.1 30)) := by
    have := ps_sa (k := 15) (j := N + 1) (v := S6.1 30) hs (by omega)
    rw [← hpN] at this ⊢
    exact this
  have e23 : (ml_sa σ 15 (N + 1) (S6.1 30)).2 23 = S6.2 23 := by
    funext j
    rw [ml_sa_a, if_neg (by omega), hs.s2]
  have px4 : md_px S6 (nd_4 S6) := ⟨⟨fun _ _ => rfl, by unfold nd_4; rw [ml_sa_a, if_neg (by omega)]⟩, fun k hk => funext fun j => by unfold nd_4; rw [ml_sa_a, if_neg (by omega)]⟩
  refine node_gv (b := pr_v S6) (by show σ.1 19 = _; rw [hs.s1 19 (by omega)]; exact v3) v4 (by show 5 ≤ D; omega) (Nat.le_refl 1) (pr_v S6 - (b + i)) (b + i) _ (by omega) (fun hg E => ?_) (fun hg => ?_)
  · rw [nd_gv_cg e23] at hg
    rw [if_pos hg] at h
    refine mbnode_385 (ps_take h4 hT (Nat.le_refl 3)) (by show _ ≤ D; omega) (Nat.zero_le _) (ml_kr0 fun σ hs => ?_) ml_no
    have e18 : σ.1 18 = nI N := by rw [hs.s1 18 (by omega)]; exact v1.trans (by rw [hpN])
    refine mbnode_389 (by rw [e18]; exact vp_in_nI (by omega) (by decide)) ?_
    have e15 : (nd_4 S6).2 15 N = nI k0 := by
      unfold nd_4
      rw [ml_sa_a, if_pos rfl, if_neg (by rw [hpN]; omega)]
      exact h15
    rw [e18, c0, hs.s2, e15]
    refine node_jg (k1 := pr_k S6) (p1 := pr_p S6) (l1 := pr_l S6) hD (by omega) (by omega) (by omega) (pr_k S6 - k0) k0 (nd_4 S6) σ _ (by omega) hs hT hJ.n4 b5 (fun k2 q1 q2 => hE k2 q1 q2) (hpx.tr px4) (fun S7 σ E hj hs => ?_) (fun kd pl hj => ?_)
    · rw [hj] at h
      dsimp only at h
      obtain ⟨j1, j2⟩ := nd_jg_js _ _ _ _ hj
      have e7 : S7.1 18 = nI N := by rw [j1 18 (by omega)]; exact v1.trans (by rw [hpN])
      have eN7 : pr_N S7 = N := by rw [pr_N, e7, c0]
      rw [eN7] at h
      refine mbnode_418 (fun G => ?_)
      rw [hs.s1 18 (by omega), e7, nI_1]
      exact pq_ret0 h (ps_sf hs (by omega))
    · rw [hj] at h
      exact (Option.some.inj h).symm
  · rw [nd_gv_cg e23] at hg
    rw [if_neg (by rw [hg]; decide)] at h
    exact pq_X.er h (hpx.tr px4) rfl rfl h4.2
end
