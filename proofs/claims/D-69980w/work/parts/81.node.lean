/-! the loops of node -/
set_option maxRecDepth 100000
section
variable {z : MZ} {T : Nat → Int32} {n D : Nat}
theorem nd_name0 {p : Prop} {i : Decidable p} : (@ite Int32 p i 1 0 = 0) ↔ ¬ p := by
  split
  · rename_i h; exact ⟨fun u => absurd u (by decide), fun u => absurd h u⟩
  · rename_i h; exact ⟨fun _ => h, fun _ => rfl⟩
theorem node_vars {S0 : MS} {R r : PE} {f0 : Nat} (hw : ml_ws z) (hD : 20 ≤ D) (hx : ∀ k, r = .inl k → R = .inl k) (K : ∀ c' S' σ E, r = .inr (0, c', S') → ps n c' S' σ → ml_V z mX6_node (D, 1, (fun v σ' _ => pq_N0 n R v σ'), pq_X S0 R) 242 [(0, vR (some z.2.1))] [] σ E 1) : ∀ g c S σ E, pg_vars T n f0 g c S = some r → ps n c S σ → S.2 0 = T → pg_I n c S → md_px S0 S → ml_V z mX6_node (D, 1, (fun v σ' _ => pq_N0 n R v σ'), pq_X S0 R) 221 [(0, vR (some z.2.1))] [] σ E 1 := by
  intro g
  induction g with
  | zero => intro c S σ E h; cases h
  | succ g ih =>
    intro c S σ E h hs hT hI hpx
    unfold pg_vars at h
    refine mbnode_221 (ps_name hs hT hw (Nat.le_refl 6)) (by show _ ≤ D; omega) (Nat.zero_le _) (ml_krv fun σ ⟨hs, hS⟩ => ?_) ml_no
    refine mbnode_225 (fun q => ?_) (fun q => ?_)
    · rw [if_neg (nd_name0.1 q)] at h
      exact K _ _ _ _ (Option.some.inj h).symm hs
    · rw [if_pos (Decidable.byContradiction fun u => q (nd_name0.2 u))] at h
      obtain ⟨r1, h1, hx1, h⟩ := pr_b_some h
      refine mbnode_228 (X6_group_W (vars := true) hw hs hT hI rfl h1 (Nat.le_refl 8)) (by show _ ≤ D; omega) (Nat.le_refl 1) (pq_kr0 fun c1 σ he1 hs => ?_) (pq_kx (fun k e => hx k (hx1 k e)) hpx)
      have h := h _ _ _ he1
      rw [he1] at h1
      obtain ⟨-, a2, a3, a4, a5⟩ := pg_group_ok h1 hI hT
      have hT1 := a4.T.trans hT
      have hpx1 := hpx.tr a4.px
      refine mbnode_233 (ps_must hs hT1 (Nat.le_refl 6)) (by show _ ≤ D; omega) (Nat.le_refl 1) (ml_kr0 fun σ ⟨hq, hs⟩ => ?_) (fun kd pl σ' ⟨g1, g2, g3, g4⟩ => by
        rw [if_neg g1] at h
        exact pq_X.er (k0 := 1) (c := c1) (by rw [pr_er, hx (1, c1) (Option.some.inj h).symm]) hpx1 g2 g3 g4)
      rw [if_pos hq] at h
      obtain ⟨t1, t2⟩ := lx_tk (T := T) (n := n) (c := c1) (by rw [hq]; decide)
      exact mbnode_239 (ih _ _ _ _ h hs hT1 ⟨a2.1, by have := a2.2.1; omega, t2, a2.2.2.2⟩ hpx1)
theorem node_eqs {S0 : MS} {R r : PE} {f0 : Nat} (hw : ml_ws z) (hD : 910 ≤ D) (hx : ∀ k, r = .inl k → R = .inl k) (K : ∀ c' S' σ E, r = .inr (0, c', S') → ps n c' S' σ → lx_S n c' σ → ml_V z mX6_node (D, 1, (fun v σ' _ => pq_N0 n R v σ'), pq_X S0 R) 311 [(0, vR (some z.2.1))] [] σ E 1) : ∀ g c S σ E, pe_eqs T n f0 g c S = some r → ps n c S σ → S.2 0 = T → pn_E n c S → S.2 26 (pr_k S) = nI (pr_l S) → md_px S0 S → ml_V z mX6_node (D, 1, (fun v σ' _ => pq_N0 n R v σ'), pq_X S0 R) 297 [(0, vR (some z.2.1))] [] σ E 1 := by
  intro g
  induction g with
  | zero => intro c S σ E h; cases h
  | succ g ih =>
    intro c S σ E h hs hT hI hB hpx
    unfold pe_eqs at h
    obtain ⟨r1, h1, hx1, h⟩ := pr_b_some h
    refine mbnode_297 (X6_equation_W hw hs hT hI h1 (Nat.le_refl 900)) (by show _ ≤ D; omega) (Nat.le_refl 1) (pq_kr0 fun c1 σ he1 hs => ?_) (pq_kx (fun k e => hx k (hx1 k e)) hpx)
    have h := h _ _ _ he1
    rw [he1] at h1
    obtain ⟨-, a2, a3, a4, a5, -⟩ := pe_eq_ok h1 hI hB
    have hT1 := a5.T.trans hT
    have hpx1 := hpx.tr a5.px
    refine mbnode_301 (ps_is (tx := "tel") hs hT1 hw (by decide) (Nat.le_refl 4)) (by show _ ≤ D; omega) (Nat.zero_le _) (ml_krv fun σ ⟨hs, hS⟩ => ?_) ml_no
    refine mbnode_308 (fun q => ?_) (fun q => ?_)
    · rw [if_neg (nd_name0.1 q)] at h
      exact ih _ _ _ _ h hs hT1 a2 a3 hpx1
    · rw [if_pos (Decidable.byContradiction fun u => q (nd_name0.2 u))] at h
      exact K _ _ _ _ (Option.some.inj h).symm hs hS
theorem node_gv {jm : MJ} {σ : MS} {b x1 : Nat} (hb : σ.1 19 = nI b) (hb6 : b ≤ 6000) (hd : 5 ≤ jm.1) (h1 : 1 ≤ jm.2.1) : ∀ m v E, v + m = b → (nd_gv σ m v = true → ∀ E, ml_V z mX6_node jm 385 [(0, vR (some z.2.1))] [] σ E jm.2.1) → (nd_gv σ m v = false → jm.2.2.2 2 (nI x1) σ) → ml_V z mX6_node jm 351 [(0, vR (some z.2.1)), (1, vI (nI x1)), (2, vI (nI v))] [] σ E jm.2.1 := by
  intro m
  induction m with
  | zero =>
    intro v E hv hK hX
    refine mbnode_351 (fun _ => hK rfl _) (fun q => absurd (by rw [hb]; exact (nI_leI (by omega) (by omega)).2 (by omega)) q)
  | succ m ih =>
    intro v E hv hK hX
    refine mbnode_351 (fun q => by
      rw [hb] at q
      exact absurd ((nI_leI (by omega) (by omega)).1 q) (by omega)) (fun _ => ?_)
    refine mbnode_359 (vp_in_nI (by omega) (by decide)) (fun q => ?_) (fun q => ?_)
    · rw [nI_clamp (by omega)] at q
      refine mbnode_379 ?_
      rw [nI_1]
      have e : nd_gv σ (m + 1) v = nd_gv σ m (v + 1) := by rw [nd_gv, decide_eq_true q]; rfl
      rw [e] at hK hX
      exact ih (v + 1) _ (by omega) hK hX
    · rw [nI_clamp (by omega)] at q
      refine mbnode_369 h1 (fun q1 => ?_)
      refine mbnode_372 rfl (X23_init_C (Nat.le_refl 4)) (fun G g => g) (by omega) (Nat.zero_le _) ?_
      refine mbnode_378 rfl (fun G g => g.1) (fun G g => ?_)
      rw [g.2.1, g.2.2]
      exact hX (by rw [nd_gv, decide_eq_false q]; rfl)
theorem node_jg {S0 : MS} {R : PE} {c0 k1 p1 l1 : Nat} (hD : 20 ≤ D) (hk1 : k1 ≤ 4999) (hp1 : p1 ≤ 5000) (hl1 : l1 < 5000) : ∀ m k S σ E, k + m = k1 → ps n c0 S σ → S.2 0 = T → pj_V n S → S.1 30 = nI k1 → (∀ k2, k ≤ k2 → k2 < k1 → ∃ c p p' l l', pe_W T n S k2 c p p' l l' ∧ p' ≤ p1 ∧ l' ≤ l1) → md_px S0 S →
    (∀ S' σ E, nd_jg m k S = .inr S' → ps n c0 S' σ → ml_V z mX6_node (D, 1, (fun v σ' _ => pq_N0 n R v σ'), pq_X S0 R) 418 [(0, vR (some z.2.1))] [] σ E 1) → (∀ kd pl, nd_jg m k S = .inl (kd, pl) → R = .inl (kd, pl)) →
    ml_V z mX6_node (D, 1, (fun v σ' _ => pq_N0 n R v σ'), pq_X S0 R) 399 [(0, vR (some z.2.1)), (2, vI (nI k))] [] σ E 1 := by
  intro m
  induction m with
  | zero =>
    intro k S σ E hk hs hT hJ h30 hW hpx K hX
    have e30 : σ.1 30 = nI k1 := by rw [hs.s1 30 (by omega)]; exact h30
    refine mbnode_399 (fun _ => K S σ _ rfl hs) (fun q => absurd (by rw [e30]; exact (nI_leI (by omega) (by omega)).2 (by omega)) q)
  | succ m ih =>
    intro k S σ E hk hs hT hJ h30 hW hpx K hX
    have e30 : σ.1 30 = nI k1 := by rw [hs.s1 30 (by omega)]; exact h30
    obtain ⟨c, p, p', l, l', w, w2, w3⟩ := hW k (Nat.le_refl _) (by omega)
    refine mbnode_399 (fun q => by
      rw [e30] at q
      exact absurd ((nI_leI (by omega) (by omega)).1 q) (by omega)) (fun _ => ?_)
    have hc : (S.2 25 k).toNatClampNeg = c := by rw [w.1, nI_clamp (by have := w.2.1; have := hJ.1.1; omega)]
    refine mbnode_407 (ps_judge hs hT hJ w (by omega) (by omega) (by omega) (Nat.le_refl 8)) (by show _ ≤ D; omega) (Nat.le_refl 1) (ml_kr0 fun σ' ⟨S', hj, hs⟩ => ?_) (fun kd pl σ' ⟨g1, g2, g3⟩ => ?_)
    · refine mbnode_412 ?_
      rw [nI_1]
      obtain ⟨A, C, rfl⟩ := jg_inr hj
      have e : nd_jg (m + 1) k S = nd_jg m (k + 1) (jg_st S k A C) := by rw [nd_jg, hj]
      rw [e] at K hX
      have px2 : md_px S (jg_st S k A C) := jg_px
      exact ih (k + 1) _ _ _ (by omega) hs hT hJ.js h30 (fun k2 q1 q2 => hW k2 (by omega) q2) (hpx.tr px2) K hX
    · exact ⟨c, hX kd c (by rw [nd_jg, g1, hc]), g2, hpx.tr g3⟩
end
