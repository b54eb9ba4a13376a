/-! THE COMPONENT's PARSER: a node's end -/
set_option maxRecDepth 100000
section
variable {q : PZ} {S S' S5 S6 S7 : MS} {G G' G00 G7 : GH} {Ln cn hN c c' c6 t : Nat}
/-- the state through a node -/
theorem nd_tx {T : Nat → Int32} {n f c1 e5 c5 e6 f0 f1 : Nat} (h : nd_I n c S) (hT : S.2 0 = T) (h1 : c ≤ c1) (h2 : c1 ≤ n) (h3 : nd_hd T n f (lx_next T n c1) (nd_0 S c1 (lx_end T n c1)) = some (.inr (e5, c5, S5))) (h4 : lx_isW T n c5 "let") (h6 : pe_eqs T n f0 f1 (lx_next T n c5) (nd_3 S5) = some (.inr (e6, c6, S6))) :
    (pr_N S5 = pr_N S ∧ pr_k S5 = pr_k S ∧ pr_p S5 = pr_p S ∧ pr_a S5 = pr_v S) ∧ (∀ x, ¬ (10 ≤ x ∧ x ≤ 17) → ¬ (20 ≤ x ∧ x ≤ 24) → S5.2 x = S.2 x) ∧ (pr_N S6 = pr_N S ∧ pr_a S6 = pr_v S ∧ pr_v S6 = pr_v S5 ∧ S6.2 13 = S5.2 13 ∧ S6.2 14 = S5.2 14) ∧ (S6.2 10 (pr_N S) = nI c1 ∧ S6.2 11 (pr_N S) = nI (lx_end T n c1 - c1)) ∧
    ∀ S7, nd_jg (pr_k S6 - pr_k S5) (pr_k S5) (nd_4 S6) = .inr S7 → (pr_N S7 = pr_N S ∧ pr_a S7 = pr_v S ∧ pr_v S7 = pr_v S5 ∧ pr_k S7 = pr_k S6 ∧ pr_p S7 = pr_p S6 ∧ pr_l S7 = pr_l S6) ∧ ∀ x, x ≠ 36 → x ≠ 41 → x ≠ 15 → S7.2 x = S6.2 x := by
  obtain ⟨q1, q2, q3, q4, hM⟩ := nd_B h hT h1 h2 h3 h4
  obtain ⟨hM6, b4, b5, b6, b7, b8⟩ := nd_C hM h6
  obtain ⟨hI0, ha0, px0⟩ := nd_A (T := T) h h1 h2
  have ea0 : pr_a S5 = pr_v S := q2.a.trans ha0
  have ea3 : pr_a (nd_3 S5) = pr_v S := nd_3_E.a.trans ea0
  have ea6 : pr_a S6 = pr_v S := b5.a.trans ea3
  have ev6 : pr_v S6 = pr_v S5 := b5.v.trans rfl
  have eN5 : pr_N S5 = pr_N S := q2.N
  have eN6 : pr_N S6 = pr_N S := b5.N.trans eN5
  have f5 : ∀ x, x ≠ 19 → S5.1 x = S.1 x := fun x hx => q2.1 x hx
  have g10 : ∀ x, x = 10 ∨ x = 11 → S6.2 x = (nd_0 S c1 (lx_end T n c1)).2 x := fun x hx => by
    rw [b5.2 x (by omega) (by omega) (by omega) (by omega) (by omega), nd_3_o (by omega) (by omega), q2.2.1 x (by omega) (by omega)]
  refine ⟨⟨eN5, ?_, ?_, ea0⟩, fun x hx hx2 => ?_, ⟨eN6, ea6, ev6, ?_, ?_⟩, ⟨?_, ?_⟩, fun S7 hj => ?_⟩
  · unfold pr_k; rw [f5 30 (by omega)]
  · unfold pr_p; rw [f5 40 (by omega)]
  · rw [q2.2.1 x (by omega) (by omega)]
    funext j
    rw [nd_0_2, if_neg (by omega), if_neg (by omega), if_neg (by omega)]
  · rw [b5.2 13 (by omega) (by omega) (by omega) (by omega) (by omega), nd_3_o (by omega) (by omega)]
  · rw [b5.2 14 (by omega) (by omega) (by omega) (by omega) (by omega), nd_3_o (by omega) (by omega)]
  · rw [g10 10 (Or.inl rfl), nd_0_2, if_neg (by omega), if_neg (by omega), if_pos ⟨rfl, rfl⟩]
  · rw [g10 11 (Or.inr rfl), nd_0_2, if_neg (by omega), if_pos ⟨rfl, rfl⟩]
  · obtain ⟨j1, j2⟩ := nd_jg_js _ _ _ _ hj
    have eN7 : pr_N S7 = pr_N S := by
      rw [pr_N, j1 18 (by omega)]
      exact eN6
    have s7 : ∀ x, x ≠ 36 → x ≠ 41 → x ≠ 15 → S7.2 x = S6.2 x := fun x a b c => by
      rw [j2 x a b]
      funext j
      unfold nd_4
      rw [ml_sa_a, if_neg c]
    refine ⟨⟨eN7, ?_, ?_, ?_, ?_, ?_⟩, s7⟩
    · rw [pr_a, eN7, s7 12 (by omega) (by omega) (by omega), ← eN6]
      exact ea6
    · rw [pr_v, j1 19 (by omega)]; exact ev6
    · rw [pr_k, j1 30 (by omega)]; rfl
    · rw [pr_p, j1 40 (by omega)]; rfl
    · rw [pr_l, j1 31 (by omega)]; rfl
/-- the cells that reading a node changes aren't those of nodes that have been read -/
theorem no_fzc (h : nsI q c S G Ln cn hN) {y : Nat} (hy : (al_o G Ln y ∨ hm_o G hN y) ∨ y = q.1.2.1 ∨ y = q.1.2.2.2.1 ∨ hp_kd G y = 26) : ¬ fzc G y := by
  have kR := h.1.1.1.1
  have kB := h.1.1.2.1.1
  have kL := h.2.2.2.1.2.1.1
  have kh := h.2.2.2.2.1.2.1.1
  have oL := h.2.2.2.1.1.2
  have nL : ¬ fzl G Ln := by
    rintro ⟨-, x, hx, hk⟩
    rw [oL.uq hx, ] at kR
    unfold fzk at hk
    omega
  have hk : ∀ k, k = hp_kd G y → k = 12 ∨ k = 3 ∨ k = 26 ∨ k = 23 ∨ k = 35 ∨ k = 24 ∨ k = 25 → ¬ fzc G y := fun k e hk => by
    rintro (u | ⟨u, -⟩ | ⟨u, -⟩)
    · unfold fzk at u; omega
    · omega
    · omega
  rcases hy with ((u | ⟨u1, u2⟩) | (u | ⟨u1, u2⟩)) | u | u | u
  · rw [u]
    rintro (w | w | ⟨w, -⟩)
    · unfold fzk at w; omega
    · exact nL w
    · omega
  · rintro (w | ⟨w, -⟩ | ⟨-, L, w1, w2⟩)
    · unfold fzk at w; omega
    · omega
    · rw [← u1.uq w1] at w2
      exact nL w2
  · exact hk _ rfl (by rw [u, kh]; omega)
  · exact hk _ rfl (by omega)
  · exact hk _ rfl (by rw [u, kR]; omega)
  · exact hk _ rfl (by rw [u, kB]; omega)
  · exact hk _ rfl (by omega)
theorem hm_o.back {own : Nat → Prop} {a y : Nat} (hf : cf own G G') (hy : hp_kd G y ≠ 0) (h : hm_o G' a y) : hm_o G a y :=
  h.imp id (fun u => ⟨u.1.cg (hf.lg hy).symm, by rw [← hf.kd hy]; exact u.2⟩)
/-- from finish on -/
theorem X3_node_tail {D B r2 : Nat} {P : Option WV → GH → Prop} {PX : String → Nat → GH → Prop} {vk : (Nat → Nat) × (Nat → Int32)} {Mf : Nat → Option (Nat × Nat)} {X Q kq : Nat → Nat} {F : Nat → Int32} {i o lo k0 : Nat} {TP TC TA : Nat → Nat} {nml : List Nat} (hcmp : cmp_o q.1.1) (hD : 30 ≤ D) (h0 : nsI q c S G00 Ln cn hN) (ht0 : hp_kd G00 t = 0) (hN58 : pr_N S ≤ 58) (hnf : ∀ j, j < pr_N S → nln (rz_T q.1) S j ≠ nml)
    (hE : fnE (qS (qVK (qT q t) vk) Mf) S7 X Q F kq i o lo k0 TP TC TA nml c6 G00 G7) (hT' : S'.2 0 = rz_T q.1) (hN' : pr_N S' = pr_N S + 1) (hl : ∀ j, j < pr_N S → nln (rz_T q.1) S' j = nln (rz_T q.1) S j) (hl2 : nln (rz_T q.1) S' (pr_N S) = nml) (hr2 : 10 + al_b (pr_N S) cn + (70 + 3 * pr_N S) ≤ r2) (hB : r2 ≤ B)
    (K : ∀ G', nsI (qA q (pr_N S) t) (lx_next (rz_T q.1) (rz_n q.1) c6) S' G' Ln (al_c (pr_N S) cn) hN → nz (qS (qVK (qT q t) vk) Mf) S7 X Q F kq (pr_a S7) (pr_v S7) i o lo (pr_p S7) k0 (pr_k S7) t G' → hp_i G' t = hp_i G7 t → rx q.1 (fun y => al_o G00 Ln y ∨ hm_o G00 hN y) G00 G' → rkk q.1 G00 G' → cb (B - (r2 - (10 + al_b (pr_N S) cn + (70 + 3 * pr_N S)))) G00 G' → P none (nrmG G')) :
    wk_V q.1.1 mX3_node (D, B, P, PX, hp_cs G00, hp_ss G00) 258 [(0, vR (some q.1.2.1))] [] G7 r2 := by
  obtain ⟨hz, -, ⟨f7, k7⟩, hr7, ⟨nm, hnm1, hnm2⟩, h10⟩ := hE
  have h7 := h0.go hr7 f7 k7
  have kt7 : hp_kd G7 t = 8 := hz.1.1
  have hnm1 : hp_r G7 t 0 = some nm := hnm1
  refine blX3_node_258 h7.1.1.1.1 (X3_scan_A (d := 7) h7.1 (Nat.le_refl 7)) (by show 7 + 1 ≤ D; omega) (by omega) ?_ (fun _ _ _ u => absurd u id)
  rintro v G8 ⟨rfl, t1, t2⟩
  obtain ⟨h8, f8, k8⟩ := h7.scan t1 t2
  have e10 : hp_r G8 q.1.2.1 10 = some t := (t2.2 10 (by omega)).trans h10
  have hR8 := h8.1.1.1.1
  have hB8 := h8.1.1.2.1.1
  obtain ⟨ti8, tr8, -⟩ := f8.old h7.1.1.1.1 h7.1.1.2.1.1 (x := t) (by rw [kt7]; decide) id (by rw [kt7]; decide)
  have kt8 : hp_kd G8 t = 8 := f8.1.k kt7 (by decide)
  have hal := h8.2.2.2.1.2
  have kL8 := hal.1.1
  have hRA := h8.1.1.1.2.1
  refine blX3_node_262 hR8 h8.2.2.2.1.1.1 kL8 (by rw [e10]; exact J5_add_C (d := 6) (x := some t) hal h8.2.1.2.1 (fun y hy => by rw [← Option.some.inj hy, kt8]; decide) (by omega) (Nat.le_refl 6)) (by show 6 + 1 ≤ D; omega) (by omega) ?_ (fun _ _ _ u => absurd u id)
  rintro v G9 ⟨rfl, hal9, c9, -⟩
  have kw : ∀ y, al_w G8 Ln (pr_N S) cn y → hp_kd G8 y = 22 ∨ hp_kd G8 y = 32 := fun y u => al_ok (al_wo u) kL8
  have ng : ∀ y, (hp_kd G8 y ≠ 22 ∧ hp_kd G8 y ≠ 32) → ¬ al_w G8 Ln (pr_N S) cn y := fun y hy u => by have := kw y u; omega
  have x9 : rx q.1 (al_w G8 Ln (pr_N S) cn) G8 G9 := rx_of c9 (fun y u => by have := kw y u; omega)
  have kR9 : hp_kd G9 q.1.2.1 = 12 := c9.k hR8 (by decide)
  have rR9 : hp_r G9 q.1.2.1 = hp_r G8 q.1.2.1 := c9.r (by rw [hR8]; decide) (ng _ (by rw [hR8]; decide))
  have kt9 : hp_kd G9 t = 8 := c9.k kt8 (by decide)
  have rt9 : hp_r G9 t = hp_r G8 t := c9.r (by rw [kt8]; decide) (ng _ (by rw [kt8]; decide))
  have it9 : hp_i G9 t = hp_i G8 t := c9.i (by rw [kt8]; decide) (ng _ (by rw [kt8]; decide))
  have hm9 : hm q.1.1 G9 hN (pr_N S) (mpf (nln (rz_T q.1) S) 0 (pr_N S) (qN q)) := hm_rx h8.2.2.2.2.1.2 hR8 hB8 x9 (fun y u => by have := kw y u; unfold ok9; omega)
  have hst9 : st q.1.1 G9 nm nml := x9.2.2 _ _ (f8.2.2 _ _ hnm2)
  have knm9 : hp_kd G9 nm = 26 := hst9.1.1
  have mnone : mpf (nln (rz_T q.1) S) 0 (pr_N S) (qN q) nml = none := by
    unfold mpf
    have e := lx_find_nf (P := fun j => decide (nln (rz_T q.1) S j = nml)) (a := 0) (b := pr_N S) (Nat.zero_le _) (fun j _ h2 => decide_eq_false (hnf j h2))
    rw [e, if_neg (by omega)]
  refine blX3_node_273 kR9 (by rw [rR9]; exact e10) kt9 (by rw [rR9]; exact h8.2.2.2.2.1.1) hm9.1.1 (by rw [rt9, tr8, hnm1, rR9, e10]; exact J7_put_C (d := 28) hm9 (by omega) hst9 (by rw [kt9]; decide) hcmp (Nat.le_refl 28)) (by show 28 + 1 ≤ D; omega) (by omega) ?_ (fun _ _ _ u => absurd u id)
  rintro v G10 ⟨rfl, m1, m2, m3, m4⟩
  rw [if_pos mnone] at m1
  have kh9 := hm9.1.1
  have ko : ∀ y, (hm_o G9 hN y ∨ y = nm) → hp_kd G9 y = 23 ∨ hp_kd G9 y = 35 ∨ hp_kd G9 y = 24 ∨ hp_kd G9 y = 25 ∨ hp_kd G9 y = 26 := by
    rintro y ((u | ⟨-, u⟩) | u)
    · rw [u, kh9]; omega
    · omega
    · rw [u, knm9]; omega
  have no : ∀ y, (hp_kd G9 y ≠ 23 ∧ hp_kd G9 y ≠ 35 ∧ hp_kd G9 y ≠ 24 ∧ hp_kd G9 y ≠ 25 ∧ hp_kd G9 y ≠ 26) → ¬ (hm_o G9 hN y ∨ y = nm) := fun y hy u => by have := ko y u; omega
  have x10 : rx q.1 (hm_o G9 hN) G9 G10 := ⟨m2.mono (fun y _ u => u.elim Or.inl (fun v => Or.inr (Or.inr (Or.inr (by rw [v]; exact knm9))))), m3, m4⟩
  have hf8 : cf _ G00 G8 := (f7.tr f8 (fun _ _ u => u)).1
  have fx8 := f7.tr f8 (fun _ _ u => u)
  have fx9 : rx q.1 (fun y => al_o G00 Ln y ∨ hm_o G00 hN y) G00 G9 := (fx8.mono (fun _ _ u => u.elim)).tr x9 (fun y hy u => Or.inl (al_o.back hf8 hy (al_wo u)))
  have fx10 : rx q.1 (fun y => al_o G00 Ln y ∨ hm_o G00 hN y) G00 G10 := fx9.tr x10 (fun y hy u => Or.inr (hm_o.back fx9.1 hy u))
  have rR10 : hp_r G10 q.1.2.1 = hp_r G9 q.1.2.1 := m2.r (by rw [kR9]; decide) (no _ (by rw [kR9]; decide))
  have it10 : hp_i G10 t = hp_i G9 t := m2.i (by rw [kt9]; decide) (no _ (by rw [kt9]; decide))
  have kk10 : rkk q.1 G00 G10 := fun k hk => by rw [rR10, rR9]; exact (k8 k hk).trans (k7 k hk)
  have kT8 := h8.1.1.2.2.1.1
  have kT9 : hp_kd G9 q.1.2.2.1 = 30 := c9.k kT8 (by decide)
  have rat9 := h8.1.fr c9 x9.2.2 (ng _ (by rw [hR8]; decide)) (ng _ (by rw [kT8]; decide))
  have rat10 := rat9.fr m2 m4 (no _ (by rw [kR9]; decide)) (no _ (by rw [kT9]; decide))
  have f710 : rx q.1 (fun y => al_o G7 Ln y ∨ hm_o G7 hN y) G7 G10 := ((f8.mono (fun _ _ u => u.elim)).tr x9 (fun y hy u => Or.inl (al_o.back f8.1 hy (al_wo u)))).tr x10 (fun y hy u => Or.inr (hm_o.back ((f8.mono (own2 := fun y => al_o G7 Ln y ∨ hm_o G7 hN y) (fun _ _ u => u.elim)).tr x9 (fun y hy u => Or.inl (al_o.back f8.1 hy (al_wo u)))).1 hy u))
  have kL9 : hp_kd G9 Ln = 22 := hal9.1.1
  refine wk_cb (by omega) fun hc => wk_nrm (blX3_node_292 ?_)
  rw [show r2 - 10 - al_b (pr_N S) cn - (70 + 3 * pr_N S) = r2 - (10 + al_b (pr_N S) cn + (70 + 3 * pr_N S)) by omega] at hc
  refine K G10 ⟨rat10, (h8.2.1.fr2 c9 x9.2.1 (fun y u => by have := kw y u; omega)).fr2 m2 m3 (fun y u => by have := ko y u; omega), hT', ⟨⟨?_, ?_⟩, ?_⟩, ⟨?_, ?_⟩, fun f hf => ?_⟩ (hz.fr f710.1 (fun y _ u => no_fzc h7 u)) (it10.trans (it9.trans ti8)) fx10 kk10 hc
  · rw [rR10, rR9]; exact h8.2.2.2.1.1.1
  · exact (h8.2.2.2.1.1.2.cg (c9.lg (by rw [kL8]; decide))).cg (m2.lg (by rw [kL9]; decide))
  · rw [hN']
    refine (hal9.fr m2 (no _ (by rw [kL9]; decide)) (fun y _ hk => no _ (by rw [hk]; decide))).cg (fun j hj => ?_)
    show some (if j = pr_N S then t else qN q j) = if j = pr_N S then some t else some (qN q j)
    split <;> rfl
  · rw [rR10, rR9]; exact h8.2.2.2.2.1.1
  · rw [hN']
    have e1 : mpf (nln (rz_T q.1) S') 0 (pr_N S + 1) (hp_u1 (qN q) (pr_N S) t) = mu (mpf (nln (rz_T q.1) S') 0 (pr_N S) (qN q)) (nln (rz_T q.1) S' (pr_N S)) t := mpf_mu (Nat.zero_le _) (fun j _ hj => by rw [hl j hj, hl2]; exact hnf j hj)
    have e2 : mpf (nln (rz_T q.1) S') 0 (pr_N S) (qN q) = mpf (nln (rz_T q.1) S) 0 (pr_N S) (qN q) := mpf_cg (fun j _ hj => hl j hj) (fun _ _ _ => rfl) (Nat.zero_le _)
    show hm q.1.1 G10 hN (pr_N S + 1) (mpf (nln (rz_T q.1) S') 0 (pr_N S + 1) (hp_u1 (qN q) (pr_N S) t))
    rw [e1, e2, hl2]
    exact m1
  · rw [hN'] at hf
    rcases Nat.lt_or_ge f (pr_N S) with u | u
    · rw [qA_N u]
      exact fx10.1.k (h0.2.2.2.2.2 f u) (by decide)
    · rw [show f = pr_N S by omega, show qN (qA q (pr_N S) t) (pr_N S) = t from if_pos rfl]
      exact m2.k kt9 (by decide)
end
