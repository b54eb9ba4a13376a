/-! what a parse leaves: method by method -/
set_option maxRecDepth 100000
theorem kk_or_ok {T : Nat → Int32} {n c : Nat} (h : kk_or T n c ≠ 0) : lx_kind T n c ≠ 0 ∧ 5 ≤ kk_or T n c ∧ kk_or T n c ≤ 21 := by
  unfold kk_or at h ⊢
  split
  · rename_i g; exact ⟨by rw [g.1]; decide, by decide, by decide⟩
  · split
    · rename_i g; exact ⟨by rw [g.1]; decide, by decide, by decide⟩
    · rename_i g1 g2; rw [if_neg g1, if_neg g2] at h; exact absurd rfl h
theorem kk_and_ok {T : Nat → Int32} {n c : Nat} (h : kk_and T n c ≠ 0) : lx_kind T n c ≠ 0 ∧ 5 ≤ kk_and T n c ∧ kk_and T n c ≤ 21 := by
  unfold kk_and at h ⊢
  split
  · rename_i g; exact ⟨by rw [g.1]; decide, by decide, by decide⟩
  · rename_i g1; rw [if_neg g1] at h; exact absurd rfl h
theorem kk_sum_ok {T : Nat → Int32} {n c : Nat} (h : kk_sum T n c ≠ 0) : lx_kind T n c ≠ 0 ∧ 5 ≤ kk_sum T n c ∧ kk_sum T n c ≤ 21 := by
  unfold kk_sum at h ⊢
  split
  · rename_i g; exact ⟨by rw [g]; decide, by decide, by decide⟩
  · split
    · rename_i g; exact ⟨by rw [g]; decide, by decide, by decide⟩
    · rename_i g1 g2; rw [if_neg g1, if_neg g2] at h; exact absurd rfl h
theorem kk_prd_ok {T : Nat → Int32} {n c : Nat} (h : kk_prd T n c ≠ 0) : lx_kind T n c ≠ 0 ∧ 5 ≤ kk_prd T n c ∧ kk_prd T n c ≤ 21 := by
  unfold kk_prd at h ⊢
  split
  · rename_i g; exact ⟨by rw [g]; decide, by decide, by decide⟩
  · split
    · rename_i g; exact ⟨by rw [g.1]; decide, by decide, by decide⟩
    · split
      · rename_i g; exact ⟨by rw [g.1]; decide, by decide, by decide⟩
      · rename_i g1 g2 g3; rw [if_neg g1, if_neg g2, if_neg g3] at h; exact absurd rfl h
theorem kk_una_ok {T : Nat → Int32} {n c : Nat} (h : kk_una T n c ≠ 0) : lx_kind T n c ≠ 0 ∧ 22 ≤ kk_una T n c ∧ kk_una T n c ≤ 25 := by
  unfold kk_una at h ⊢
  split
  · rename_i g; exact ⟨by rw [g]; decide, by decide, by decide⟩
  · split
    · rename_i g; exact ⟨by rw [g.1]; decide, by decide, by decide⟩
    · split
      · rename_i g; exact ⟨by rw [g.1]; decide, by decide, by decide⟩
      · split
        · rename_i g; exact ⟨by rw [g.1]; decide, by decide, by decide⟩
        · rename_i g1 g2 g3 g4; rw [if_neg g1, if_neg g2, if_neg g3, if_neg g4] at h; exact absurd rfl h
theorem pr_cmp_ok {t : Int32} (h : pr_cmp t ≠ 0) : t ≠ 0 ∧ 5 ≤ pr_cmp t ∧ pr_cmp t ≤ 21 := by
  unfold pr_cmp at h ⊢
  repeat' split
  all_goals first | (rename_i g; subst g; exact ⟨by decide, by decide, by decide⟩) | (exfalso; revert h; simp_all)
section
variable {T : Nat → Int32} {n : Nat} {rec : PF} {Inv : MS → Prop}
theorem pp_expr_ok {d c lo p : Nat} {S : MS} {q : Nat × Nat × MS} (hcl : pc_cl n Inv) (ih : pp_IH n Inv rec) (h : pp_expr T n rec d c S = some (.inr q)) (hp : S.1 40 = nI p) (hpc : p ≤ c) (hcn : c ≤ n) (hV : pe_V n S) (hlo : lo = p) : pe_R n S lo p c q.1 q.2.1 q.2.2 ∧ (Inv S → Inv q.2.2) := by
  subst hlo
  have h0 : ¬ ((0 : Nat) = 3 ∨ (0 : Nat) = 5 ∨ (0 : Nat) = 8 ∨ (0 : Nat) = 10 ∨ (0 : Nat) = 12) ∧ (0 : Nat) ≠ 15 := by omega
  have h1 : ¬ ((1 : Nat) = 3 ∨ (1 : Nat) = 5 ∨ (1 : Nat) = 8 ∨ (1 : Nat) = 10 ∨ (1 : Nat) = 12) ∧ (1 : Nat) ≠ 15 := by omega
  have h14 : ∀ {a b : Nat} {P : Prop}, a ≠ b → (a = b → P) := fun h e => absurd e h
  unfold pp_expr at h
  split at h
  · cases h
  split at h
  · rename_i g
    obtain ⟨t1, t2⟩ := lx_tkw g
    obtain ⟨x, c1, S1, e1, h⟩ := pr_b_ok h
    obtain ⟨r1, i1⟩ := ih.main e1 h0 hp (by omega) t2 hV (h14 (by omega))
    dsimp only at r1 i1
    split at h
    · rename_i g2
      obtain ⟨t3, t4⟩ := lx_tkw g2
      obtain ⟨y, c2, S2, e2, h⟩ := pr_b_ok h
      obtain ⟨s1, x1, y1, z1, r1', u1, v1, w1, f1, l1, w1'⟩ := r1
      have hV1 := hV.same s1
      obtain ⟨r2, i2⟩ := ih.main e2 h0 x1 (by omega) t4 hV1 (h14 (by omega))
      dsimp only at r2 i2
      obtain ⟨s2, x2, y2, z2, r2', u2, v2, w2, f2, l2, w2'⟩ := r2
      have hV2 := hV1.same s2
      split at h
      · rename_i g3
        obtain ⟨t5, t6⟩ := lx_tkw g3
        obtain ⟨w, c3, S3, e3, h⟩ := pr_b_ok h
        -- the second part hangs behind the first
        have sb : pe_same S2 (ml_sa S2 35 x (nI y)) := ⟨fun k _ => rfl, fun k _ _ h3 => by
          funext j
          rw [ml_sa_a, if_neg (by omega)]⟩
        have hB : ∀ j, j ≠ x → (ml_sa S2 35 x (nI y)).2 35 j = S2.2 35 j := fun j hj => by rw [ml_sa_a, if_pos rfl, if_neg hj]
        have hq : ∀ q j, q ≠ 35 → (ml_sa S2 35 x (nI y)).2 q j = S2.2 q j := fun q j hq => by rw [ml_sa_a, if_neg hq]
        obtain ⟨r3, i3⟩ := ih.main e3 h0 (S := ml_sa S2 35 x (nI y)) (p := y + 1) x2 (by omega) t6 (hV2.same sb) (h14 (by omega))
        dsimp only at r3 i3
        obtain ⟨s3, x3, y3, z3, r3', u3, v3, w3, f3, l3, w3'⟩ := r3
        have sc : pe_same S3 (ml_sa S3 35 y (nI w)) := ⟨fun k _ => rfl, fun k _ _ h3 => by
          funext j
          rw [ml_sa_a, if_neg (by omega)]⟩
        have hC : ∀ j, j ≠ y → (ml_sa S3 35 y (nI w)).2 35 j = S3.2 35 j := fun j hj => by rw [ml_sa_a, if_pos rfl, if_neg hj]
        have hr : ∀ q j, q ≠ 35 → (ml_sa S3 35 y (nI w)).2 q j = S3.2 q j := fun q j hq => by rw [ml_sa_a, if_neg hq]
        have hx : (ml_sa S3 35 y (nI w)).1 40 = nI (w + 1) := x3
        obtain ⟨q1, q2, hM⟩ := pr_make_ok h hx (by have := hV.1; omega)
        have hK : (ml_sa S3 35 y (nI w)).2 34 = S3.2 34 := funext fun j => hr 34 j (by omega)
        -- all frames at once
        have F2 : ∀ q j, 32 ≤ q → q ≤ 39 → j ≤ y → (q ≠ 35 ∨ (j ≠ x ∧ j ≠ y)) → (ml_sa S3 35 y (nI w)).2 q j = S2.2 q j := fun q j a1 a2 a3 a4 => by
          rcases Decidable.em (q = 35) with e | e
          · subst e
            rw [hC j (by omega), f3 35 j a1 a2 (by omega), hB j (by omega)]
          · rw [hr q j e, f3 q j a1 a2 (by omega), hq q j e]
        have hlwx : lw (S3.2 34) x = lo := by
          rw [← l1]
          exact lw_cg x x (Nat.le_refl x) (fun j hj => by rw [← hr 34 j (by omega), F2 34 j (by omega) (by omega) (by omega) (by omega), f2 34 j (by omega) (by omega) (by omega)])
        have hlwy : lw (S3.2 34) y = x + 1 := by
          rw [← l2]
          exact lw_cg y y (Nat.le_refl y) (fun j hj => by rw [← hr 34 j (by omega), F2 34 j (by omega) (by omega) (by omega) (by omega)])
        have hall : pe_same S (ml_sa S3 35 y (nI w)) := ((((s1.tr s2).tr sb).tr s3).tr sc)
        have A1 : pw (ml_sa S3 35 y (nI w)) lo (x + 1) := w1'.cg (((s2.tr sb).tr s3).tr sc) (fun q j a1 a2 a3 => by rw [F2 q j a1 (by omega) (by omega) (by omega), f2 q j a1 (by omega) a3]) (fun j a1 a2 => by rw [F2 35 j (by omega) (by omega) (by omega) (by omega), f2 35 j (by omega) (by omega) (by omega)])
        have A2 : pw (ml_sa S3 35 y (nI w)) (x + 1) (y + 1) := w2'.cg ((sb.tr s3).tr sc) (fun q j a1 a2 a3 => F2 q j a1 (by omega) (by omega) (by omega)) (fun j a1 a2 => F2 35 j (by omega) (by omega) (by omega) (by omega))
        have A3 : pw (ml_sa S3 35 y (nI w)) (y + 1) (w + 1) := w3'.cg sc (fun q j a1 a2 a3 => hr q j (by omega)) (fun j a1 a2 => hC j (by omega))
        have hw := (A1.cat A2 (by omega)).cat A3 (by omega)
        have hch : md_ch ((ml_sa S3 35 y (nI w)).2 35) (pm_first [x, y, w]) [x, y, w] := by
          refine ⟨rfl, ?_⟩
          have ex : (ml_sa S3 35 y (nI w)).2 35 x = nI y := by
            rw [hC x (by omega), f3 35 x (by omega) (by omega) (by omega), ml_sa_a, if_pos rfl, if_pos rfl]
          rw [ex]
          refine ⟨rfl, ?_⟩
          have ey : (ml_sa S3 35 y (nI w)).2 35 y = nI w := by rw [ml_sa_a, if_pos rfl, if_pos rfl]
          rw [ey]
          refine ⟨rfl, ?_⟩
          rw [hC w (by omega), r3']
          show (-1 : Int32) < 0
          decide
        have hpk : pw_k (lw ((ml_sa S3 35 y (nI w)).2 34)) lo [x, y, w] (w + 1) := by
          rw [hK]
          exact ⟨hlwx, z1, by omega, hlwy, z2, by omega, l3, z3, by omega, rfl⟩
        have hs : pw_s (ml_sa S3 35 y (nI w)) 4 0 [x, y, w].length := Or.inr (Or.inr (Or.inr (Or.inr (Or.inl ⟨rfl, rfl⟩))))
        obtain ⟨hL, hW⟩ := hM.pw (by have := hV.1; omega) (by omega) hw hch hpk hs
        obtain ⟨e, c', S'⟩ := q
        have q1' : e = w + 1 := q1
        have q2' : c' = c3 := q2
        subst q1' q2'
        refine ⟨⟨hall.tr hM.1, hM.2.1, by omega, by omega, hM.2.2.2.2.2.2.1, by omega, v3, by omega, fun q j a1 a2 a3 => ?_, hL, hW⟩, fun i => ?_⟩
        · show S'.2 q j = _
          rw [hM.2.2.1 q j a1 a2 (by omega), F2 q j a1 a2 (by omega) (by omega), f2 q j a1 a2 (by omega), f1 q j a1 a2 a3]
        · exact hcl.2.1 _ _ _ _ _ _ _ _ hx (by omega) (by omega) (hV.same hall) (by decide) hw hch hpk hs h hM (hcl.1 _ _ _ (i3 (hcl.1 _ _ _ (i2 (i1 i)))))
      · cases h
    · cases h
  · obtain ⟨x, c1, S1, e1, h⟩ := pr_b_ok h
    obtain ⟨r1, i1⟩ := ih.main e1 h1 hp hpc hcn hV (h14 (by omega))
    dsimp only at r1 i1
    have hx1 := r1.2.1
    have hV1 := hV.same r1.1
    have hw1 := r1.2.2.2.2.2.2.2.1
    split at h
    · rename_i g
      obtain ⟨t1, t2⟩ := lx_tk (T := T) (n := n) (c := c1) (by rw [g]; decide)
      obtain ⟨y, c2, S2, e2, h⟩ := pr_b_ok h
      obtain ⟨r2, i2⟩ := ih.main e2 h0 hx1 (by omega) t2 hV1 (h14 (by omega))
      exact pp_two hcl hV.1 hpc r1 t1 r2 hV ⟨by decide, by decide⟩ h i1 i2
    · split at h
      · rename_i g
        obtain ⟨t1, t2⟩ := lx_tkw g
        obtain ⟨y, c2, S2, e2, h⟩ := pr_b_ok h
        obtain ⟨r2, i2⟩ := ih.main e2 h0 hx1 (by omega) t2 hV1 (h14 (by omega))
        exact pp_two hcl hV.1 hpc r1 t1 r2 hV ⟨by decide, by decide⟩ h i1 i2
      · have h' := Sum.inr.inj (Option.some.inj h)
        subst h'
        exact ⟨r1, i1⟩
theorem pp_impl_ok {d c lo p : Nat} {S : MS} {q : Nat × Nat × MS} (hcl : pc_cl n Inv) (ih : pp_IH n Inv rec) (h : pp_impl T n rec d c S = some (.inr q)) (hp : S.1 40 = nI p) (hpc : p ≤ c) (hcn : c ≤ n) (hV : pe_V n S) (hlo : lo = p) : pe_R n S lo p c q.1 q.2.1 q.2.2 ∧ (Inv S → Inv q.2.2) := by
  subst hlo
  unfold pp_impl at h
  split at h
  · cases h
  · obtain ⟨x, c1, S1, e1, h⟩ := pr_b_ok h
    obtain ⟨r1, i1⟩ := ih.main e1 (by omega) hp hpc hcn hV (fun e => absurd e (by omega))
    dsimp only at r1 i1
    have hw1 := r1.2.2.2.2.2.2.2.1
    split at h
    · rename_i g
      obtain ⟨t1, t2⟩ := lx_tk (T := T) (n := n) (c := c1) (by rw [g]; decide)
      obtain ⟨y, c2, S2, e2, h⟩ := pr_b_ok h
      obtain ⟨r2, i2⟩ := ih.main e2 (by omega) r1.2.1 (by omega) t2 (hV.same r1.1) (fun e => absurd e (by omega))
      exact pp_two hcl hV.1 hpc r1 t1 r2 hV ⟨by decide, by decide⟩ h i1 i2
    · have h' := Sum.inr.inj (Option.some.inj h)
      subst h'
      exact ⟨r1, i1⟩
theorem pp_cmp_ok {d c lo p : Nat} {S : MS} {q : Nat × Nat × MS} (hcl : pc_cl n Inv) (ih : pp_IH n Inv rec) (h : pp_cmp T n rec d c S = some (.inr q)) (hp : S.1 40 = nI p) (hpc : p ≤ c) (hcn : c ≤ n) (hV : pe_V n S) (hlo : lo = p) : pe_R n S lo p c q.1 q.2.1 q.2.2 ∧ (Inv S → Inv q.2.2) := by
  subst hlo
  obtain ⟨x, c1, S1, e1, h⟩ := pr_b_ok h
  obtain ⟨r1, i1⟩ := ih.main e1 (by omega) hp hpc hcn hV (fun e => absurd e (by omega))
  dsimp only at r1 i1
  have hw1 := r1.2.2.2.2.2.2.2.1
  split at h
  · have h' := Sum.inr.inj (Option.some.inj h)
    subst h'
    exact ⟨r1, i1⟩
  · rename_i g
    obtain ⟨g1, g2⟩ := pr_cmp_ok g
    obtain ⟨t1, t2⟩ := lx_tk g1
    obtain ⟨y, c2, S2, e2, h⟩ := pr_b_ok h
    obtain ⟨r2, i2⟩ := ih.main e2 (by omega) r1.2.1 (by omega) t2 (hV.same r1.1) (fun e => absurd e (by omega))
    exact pp_two hcl hV.1 hpc r1 t1 r2 hV g2 h i1 i2
theorem pp_una_ok {d c lo p : Nat} {S : MS} {q : Nat × Nat × MS} (hcl : pc_cl n Inv) (ih : pp_IH n Inv rec) (h : pp_una T n rec d c S = some (.inr q)) (hp : S.1 40 = nI p) (hpc : p ≤ c) (hcn : c ≤ n) (hV : pe_V n S) (hlo : lo = p) : pe_R n S lo p c q.1 q.2.1 q.2.2 ∧ (Inv S → Inv q.2.2) := by
  subst hlo
  unfold pp_una at h
  split at h
  · cases h
  split at h
  · obtain ⟨x, c1, S1, e1, h⟩ := pr_b_ok h
    obtain ⟨r1, i1⟩ := ih.main e1 (by omega) hp hpc hcn hV (fun e => absurd e (by omega))
    obtain ⟨r2, i2⟩ := ih _ _ _ _ _ _ _ _ _ _ _ h (r1.pre hpc hV (by omega))
    exact ⟨r1.tr (Nat.le_refl _) r2, fun i => i2 (i1 i)⟩
  · rename_i g
    obtain ⟨g1, g2⟩ := kk_una_ok g
    obtain ⟨t1, t2⟩ := lx_tk g1
    obtain ⟨x, c1, S1, e1, h⟩ := pr_b_ok h
    obtain ⟨r1, i1⟩ := ih.main e1 (by omega) hp (by omega) t2 hV (fun e => absurd e (by omega))
    dsimp only at r1 i1
    obtain ⟨s1, x1, y1, z1, r1', u1, v1, w1, f1, l1, w1'⟩ := r1
    refine pp_one hcl hV.1 hpc ⟨s1, x1, y1, z1, r1', by omega, v1, by omega, f1, l1, w1'⟩ (Nat.le_refl c1) v1 (by omega) hV ?_ ?_ h i1
    · intro e; rw [e] at g2; exact absurd g2.1 (by decide)
    · exact Or.inr (Or.inr (Or.inr (Or.inr (Or.inr (Or.inr (Or.inl ⟨g2.1, g2.2, rfl⟩))))))
theorem pr_wh_ok {s c : Nat} {S : MS} {K : Int32 → Option PE} {q : Nat × Nat × MS} (hs : s < 2) (hV : pe_V n S) (h : pr_wh T n s c S K = some (.inr q)) : ∃ w, K w = some (.inr q) ∧ lx_name T n c ∧ pw_s S 26 w 1 := by
  unfold pr_wh at h
  split at h
  · cases h
  rename_i g1
  split at h
  · cases h
  rename_i g2
  split at h
  · cases h
  have g3 : pr_fv n S c < pr_v S := Decidable.byContradiction fun u => g2 (Or.inl u)
  have g4 : S.2 24 (pr_fv n S c) ≠ 0 := fun u => g2 (Or.inr u)
  have hle : pr_a S ≤ pr_fv n S c := (lx_find_spec (P := lx_vs S n c) (b := pr_v S) (pr_v S) (pr_a S) (by omega) hV.N.2.2.2.2.2.1).1
  refine ⟨_, h, Decidable.not_not.1 g1, Or.inr (Or.inr (Or.inr (Or.inr (Or.inr (Or.inr (Or.inr ⟨rfl, rfl, pr_fv n S c - pr_a S, s, hs, by omega, ?_, rfl⟩))))))⟩
  rw [show pr_a S + (pr_fv n S c - pr_a S) = pr_fv n S c by omega]
  exact g4
theorem pp_wh_ok {d a c lo p : Nat} {S : MS} {q : Nat × Nat × MS} {l : List Nat} (hcl : pc_cl n Inv) (ih : pp_IH n Inv rec) (h : pp_wh T n rec d a c S = some (.inr q)) (hp : pp_pre n 12 a l lo p c S) : pe_R n S lo p c q.1 q.2.1 q.2.2 ∧ (Inv S → Inv q.2.2) := by
  have r0 := hp.R (by omega)
  have hV := hp.2.2.2.1
  have hpc := hp.2.1
  have e5 : a + 1 = p := by have h5 := hp.2.2.2.2; rw [if_pos (by omega)] at h5; exact h5.1
  unfold pp_wh at h
  split at h
  · have h' := Sum.inr.inj (Option.some.inj h)
    subst h'
    exact ⟨r0, id⟩
  · rename_i g
    obtain ⟨t1, t2⟩ := lx_tkw (Decidable.not_not.1 g)
    have fin : ∀ s c1, s < 2 → lx_next T n c ≤ c1 → pr_wh T n s c1 S (fun w => pr_b (pr_make S 26 w [a] (lx_next T n c1)) fun x c2 S2 => rec 12 d x [] c2 S2) = some (.inr q) → pe_R n S lo p c q.1 q.2.1 q.2.2 ∧ (Inv S → Inv q.2.2) := by
      intro s c1 hs hc1 h
      obtain ⟨w, h, hn, hw⟩ := pr_wh_ok hs hV h
      obtain ⟨t3, t4⟩ := lx_tkn hn
      obtain ⟨x, c2, S2, e1, h⟩ := pr_b_ok h
      obtain ⟨r1, i1⟩ := pp_one hcl hV.1 hpc r0 (c2 := lx_next T n c1) (by omega) t4 (by omega) hV (by decide) hw e1 id
      obtain ⟨r2, i2⟩ := ih _ _ _ _ _ _ _ _ _ _ _ h (r1.pre hpc hV (by omega))
      exact ⟨r1.tr (Nat.le_refl _) r2, fun i => i2 (i1 i)⟩
    split at h
    · rename_i g2
      obtain ⟨t3, t4⟩ := lx_tkw g2
      exact fin 0 _ (by omega) (by omega) h
    · exact fin 1 _ (by omega) (Nat.le_refl _) h
theorem pp_atom_ok {d c lo p : Nat} {S : MS} {q : Nat × Nat × MS} (hcl : pc_cl n Inv) (ih : pp_IH n Inv rec) (h : pp_atom T n rec d c S = some (.inr q)) (hp : S.1 40 = nI p) (hpc : p ≤ c) (hcn : c ≤ n) (hV : pe_V n S) (hlo : lo = p) : pe_R n S lo p c q.1 q.2.1 q.2.2 ∧ (Inv S → Inv q.2.2) := by
  subst hlo
  have hle : pr_a S ≤ pr_fv n S c := (lx_find_spec (P := lx_vs S n c) (b := pr_v S) (pr_v S) (pr_a S) (by omega) hV.N.2.2.2.2.2.1).1
  unfold pp_atom at h
  split at h
  · rename_i g
    obtain ⟨t1, t2⟩ := lx_tk (T := T) (n := n) (c := c) (by rw [g]; decide)
    exact pp_leaf hcl hV.1 hp hpc t1 t2 hV (by decide) (Or.inl ⟨rfl, rfl⟩) h
  split at h
  · rename_i g
    obtain ⟨t1, t2⟩ := lx_tkw g
    exact pp_leaf hcl hV.1 hp hpc t1 t2 hV (by decide) (Or.inr (Or.inl ⟨rfl, rfl, Or.inr rfl⟩)) h
  split at h
  · rename_i g
    obtain ⟨t1, t2⟩ := lx_tkw g
    exact pp_leaf hcl hV.1 hp hpc t1 t2 hV (by decide) (Or.inr (Or.inl ⟨rfl, rfl, Or.inl rfl⟩)) h
  split at h
  · rename_i g
    obtain ⟨t1, t2⟩ := lx_tk (T := T) (n := n) (c := c) (by rw [g]; decide)
    obtain ⟨x, c1, S1, e1, h⟩ := pr_b_ok h
    obtain ⟨r1, i1⟩ := ih.main e1 (by omega) hp (by omega) t2 hV (fun e => absurd e (by omega))
    dsimp only at r1 i1
    split at h
    · rename_i g2
      obtain ⟨t3, t4⟩ := lx_tk (T := T) (n := n) (c := c1) (by rw [g2]; decide)
      have h' := Sum.inr.inj (Option.some.inj h)
      subst h'
      obtain ⟨s1, x1, y1, z1, r1', u1, v1, w1, f1, l1, w1'⟩ := r1
      refine ⟨?_, i1⟩
      dsimp only
      exact ⟨s1, x1, y1, z1, r1', by omega, t4, by omega, f1, l1, w1'⟩
    · cases h
  split at h
  · cases h
  rename_i gn
  obtain ⟨t1, t2⟩ := lx_tkn (Decidable.not_not.1 gn)
  split at h
  · split at h
    · rename_i g2 g3
      obtain ⟨r1, i1⟩ := ih.main h (by omega) hp (by omega) t2 hV (fun _ => g3)
      obtain ⟨s1, x1, y1, z1, r1', u1, v1, w1, f1, l1, w1'⟩ := r1
      exact ⟨⟨s1, x1, y1, z1, r1', by omega, v1, by omega, f1, l1, w1'⟩, i1⟩
    · cases h
  split at h
  · rename_i g2
    exact pp_leaf hcl hV.1 hp hpc t1 t2 hV (by decide) (Or.inr (Or.inr (Or.inl ⟨rfl, rfl, _, by omega, rfl⟩))) h
  · cases h
theorem pp_call_ok {d k c lo p : Nat} {S : MS} {q : Nat × Nat × MS} (hcl : pc_cl n Inv) (ih : pp_IH n Inv rec) (h : pp_call T n rec d k c S = some (.inr q)) (hp : S.1 40 = nI p) (hpc : p ≤ c) (hcn : c ≤ n) (hV : pe_V n S) (hlo : lo = p) (hk : k < pr_N S) : pe_R n S lo p c q.1 q.2.1 q.2.2 ∧ (Inv S → Inv q.2.2) := by
  subst hlo
  unfold pp_call at h
  split at h
  · rename_i g
    obtain ⟨t1, t2⟩ := lx_tk (T := T) (n := n) (c := c) (by rw [g]; decide)
    obtain ⟨x, c1, S1, e1, h⟩ := pr_b_ok h
    obtain ⟨r1, i1⟩ := ih.main e1 (by omega) hp (by omega) t2 hV (fun e => absurd e (by omega))
    dsimp only at r1 i1
    obtain ⟨s1, x1, y1, z1, r1', u1, v1, w1, f1, l1, w1'⟩ := r1
    have hpre : pp_pre n 15 k [x] lo (x + 1) c1 S1 := by
      refine ⟨x1, by omega, v1, hV.same s1, ?_⟩
      rw [if_neg (by omega), if_pos rfl]
      refine ⟨by rw [s1.N]; exact hk, by simp, ⟨l1, z1, by omega, rfl⟩, ⟨rfl, ?_⟩, w1'⟩
      rw [r1']
      show (-1 : Int32) < 0
      decide
    obtain ⟨e, c', S'⟩ := q
    obtain ⟨r2, i2⟩ := ih _ _ _ _ _ _ _ _ _ _ _ h hpre
    obtain ⟨s2, x2, y2, z2, r2', u2, v2, w2, f2, l2, w2'⟩ := r2
    dsimp only
    exact ⟨⟨s1.tr s2, x2, by omega, z2, r2', by omega, v2, by omega, fun q j a1 a2 a3 => (f2 q j a1 a2 a3).trans (f1 q j a1 a2 a3), l2, w2'⟩, fun i => i2 (i1 i)⟩
  · cases h
theorem pp_args_ok {d k c lo p : Nat} {S : MS} {q : Nat × Nat × MS} {l : List Nat} (hcl : pc_cl n Inv) (ih : pp_IH n Inv rec) (h : pp_args T n rec d k l c S = some (.inr q)) (hpre : pp_pre n 15 k l lo p c S) : pe_R n S lo p c q.1 q.2.1 q.2.2 ∧ (Inv S → Inv q.2.2) := by
  obtain ⟨hp, hpc, hcn, hV, h5⟩ := hpre
  rw [if_neg (by omega), if_pos rfl] at h5
  obtain ⟨hk, hl0, hpk, hch, hw⟩ := h5
  have hlast := pw_k_last l lo hl0 hpk
  have hlo : lo ≤ p := (pw_k_mem l lo hpk).1
  have hmem : ∀ k ∈ l, lo ≤ k ∧ k < p := (pw_k_mem l lo hpk).2
  unfold pp_args at h
  split at h
  · rename_i g
    obtain ⟨t1, t2⟩ := lx_tk (T := T) (n := n) (c := c) (by rw [g]; decide)
    obtain ⟨x, c1, S1, e1, h⟩ := pr_b_ok h
    obtain ⟨r1, i1⟩ := ih.main e1 (by omega) hp (by omega) t2 hV (fun e => absurd e (by omega))
    dsimp only at r1 i1
    obtain ⟨s1, x1, y1, z1, r1', u1, v1, w1, f1, l1, w1'⟩ := r1
    have sb : pe_same S1 (ml_sa S1 35 (l.getLastD 0) (nI x)) := ⟨fun k _ => rfl, fun k _ _ h3 => by
      funext j
      rw [ml_sa_a, if_neg (by omega)]⟩
    have hB : ∀ j, (ml_sa S1 35 (l.getLastD 0) (nI x)).2 35 j = if j = l.getLastD 0 then nI x else S1.2 35 j := fun j => by rw [ml_sa_a, if_pos rfl]
    have hq : ∀ q j, q ≠ 35 → (ml_sa S1 35 (l.getLastD 0) (nI x)).2 q j = S1.2 q j := fun q j hq => by rw [ml_sa_a, if_neg hq]
    have hlast' : lo ≤ l.getLastD 0 := by
      obtain ⟨k0, l0, e⟩ := List.exists_cons_of_ne_nil hl0
      have hm : l.getLastD 0 ∈ l := by
        rw [List.getLastD_eq_getLast?, List.getLast?_eq_some_getLast hl0]
        exact List.getLast_mem hl0
      exact (hmem _ hm).1
    have hpre : pp_pre n 15 k (l ++ [x]) lo (x + 1) c1 (ml_sa S1 35 (l.getLastD 0) (nI x)) := by
      refine ⟨x1, by omega, v1, (hV.same s1).same sb, ?_⟩
      rw [if_neg (by omega), if_pos rfl]
      have hK : (ml_sa S1 35 (l.getLastD 0) (nI x)).2 34 = S1.2 34 := funext fun j => hq 34 j (by omega)
      have hlw : ∀ k, k < p → lw (S1.2 34) k = lw (S.2 34) k := fun k hk' => lw_cg (p - 1) k (by omega) (fun j hj => f1 34 j (by omega) (by omega) (by omega))
      refine ⟨by rw [sb.N, s1.N]; exact hk, by simp, ?_, ?_, ?_⟩
      · rw [hK]
        exact pw_k_app l lo (pw_k_cg l lo (fun k hk' => (hlw k hk').symm) hpk) l1 z1
      · have e0 : (ml_sa S1 35 (l.getLastD 0) (nI x)).2 35 = fun j => if j = l.getLastD 0 then nI x else S1.2 35 j := funext hB
        have e1 : pm_first (l ++ [x]) = pm_first l := by
          obtain ⟨k0, l0, e⟩ := List.exists_cons_of_ne_nil hl0
          rw [e]
          rfl
        rw [e0, e1]
        exact md_ch_app l lo _ hl0 hpk z1 (by rw [r1']; decide) (md_ch_cg l _ (fun k hk' => (f1 35 k (by omega) (by omega) (hmem k hk').2).symm) hch)
      · have A1 : pw (ml_sa S1 35 (l.getLastD 0) (nI x)) lo p := hw.cg (s1.tr sb) (fun q j a1 a2 a3 => by rw [hq q j (by omega), f1 q j a1 (by omega) a3]) (fun j a1 a2 => by rw [hB, if_neg (by omega), f1 35 j (by omega) (by omega) (by omega)])
        have A2 : pw (ml_sa S1 35 (l.getLastD 0) (nI x)) p (x + 1) := w1'.cg sb (fun q j a1 a2 a3 => hq q j (by omega)) (fun j a1 a2 => by rw [hB, if_neg (by omega)])
        exact A1.cat A2 hlo
    obtain ⟨e, c', S'⟩ := q
    obtain ⟨r2, i2⟩ := ih _ _ _ _ _ _ _ _ _ _ _ h hpre
    obtain ⟨s2, x2, y2, z2, r2', u2, v2, w2, f2, l2, w2'⟩ := r2
    dsimp only
    refine ⟨⟨(s1.tr sb).tr s2, x2, by omega, z2, r2', by omega, v2, by omega, fun q j a1 a2 a3 => ?_, l2, w2'⟩, fun i => i2 (hcl.1 _ _ _ (i1 i))⟩
    rw [f2 q j a1 a2 a3, ← f1 q j a1 a2 (by omega)]
    rcases Decidable.em (q = 35) with e | e
    · subst e
      rw [hB, if_neg (by omega)]
    · rw [hq q j e]
  · split at h
    · rename_i g
      obtain ⟨t1, t2⟩ := lx_tk (T := T) (n := n) (c := c) (by rw [g]; decide)
      have h1n : p < n := by omega
      have hs : pw_s S 3 (nI k) l.length := Or.inr (Or.inr (Or.inr (Or.inl ⟨rfl, by
        cases l with
        | nil => exact absurd rfl hl0
        | cons => simp, k, hk, rfl⟩)))
      obtain ⟨q1, q2, hM⟩ := pr_call_ok h hp (by have := hV.1; omega)
      obtain ⟨hL, hW⟩ := hM.pw (by have := hV.1; omega) hlo hw hch hpk hs
      obtain ⟨e, c', S'⟩ := q
      have q1' : e = p := q1
      have q2' : c' = lx_next T n c := q2
      subst q1' q2'
      exact ⟨⟨hM.1, hM.2.1, by omega, hlo, hM.2.2.2.2.2.2.1, by omega, t2, by omega, fun q j a1 a2 a3 => hM.2.2.1 q j a1 a2 (by omega), hL, hW⟩, fun i => hcl.2.2 _ _ _ _ _ _ _ hp h1n hlo hV hw hch hpk hs h hM i⟩
    · cases h
end
theorem pp_ok {T : Nat → Int32} {n : Nat} {Inv : MS → Prop} (hcl : pc_cl n Inv) : ∀ f, pp_IH n Inv (pp T n f) := by
  intro f
  induction f with
  | zero =>
    intro m d a l c S lo p e c' S' h hp
    have h' : (none : Option PE) = some (.inr (e, c', S')) := h
    cases h'
  | succ f ih =>
    intro m d a l c S lo p e c' S' h hp
    match m, h, hp with
    | 0, h, hp => obtain ⟨a1, a2, a3, a4, a5, a6⟩ := hp.main (by omega); exact pp_expr_ok (q := (e, c', S')) hcl ih h a1 a2 a3 a4 a5
    | 1, h, hp => obtain ⟨a1, a2, a3, a4, a5, a6⟩ := hp.main (by omega); exact pp_impl_ok (q := (e, c', S')) hcl ih h a1 a2 a3 a4 a5
    | 2, h, hp => obtain ⟨a1, a2, a3, a4, a5, a6⟩ := hp.main (by omega); exact pp_fst_ok (q := (e, c', S')) (m := 4) (ml := 3) ih (by omega) (by omega) h a1 a2 a3 a4 a5
    | 3, h, hp => exact pp_lp_ok (q := (e, c', S')) (m := 4) (ml := 3) hcl ih (by omega) (by omega) kk_or_ok h hp
    | 4, h, hp => obtain ⟨a1, a2, a3, a4, a5, a6⟩ := hp.main (by omega); exact pp_fst_ok (q := (e, c', S')) (m := 6) (ml := 5) ih (by omega) (by omega) h a1 a2 a3 a4 a5
    | 5, h, hp => exact pp_lp_ok (q := (e, c', S')) (m := 6) (ml := 5) hcl ih (by omega) (by omega) kk_and_ok h hp
    | 6, h, hp => obtain ⟨a1, a2, a3, a4, a5, a6⟩ := hp.main (by omega); exact pp_cmp_ok (q := (e, c', S')) hcl ih h a1 a2 a3 a4 a5
    | 7, h, hp => obtain ⟨a1, a2, a3, a4, a5, a6⟩ := hp.main (by omega); exact pp_fst_ok (q := (e, c', S')) (m := 9) (ml := 8) ih (by omega) (by omega) h a1 a2 a3 a4 a5
    | 8, h, hp => exact pp_lp_ok (q := (e, c', S')) (m := 9) (ml := 8) hcl ih (by omega) (by omega) kk_sum_ok h hp
    | 9, h, hp => obtain ⟨a1, a2, a3, a4, a5, a6⟩ := hp.main (by omega); exact pp_fst_ok (q := (e, c', S')) (m := 11) (ml := 10) ih (by omega) (by omega) h a1 a2 a3 a4 a5
    | 10, h, hp => exact pp_lp_ok (q := (e, c', S')) (m := 11) (ml := 10) hcl ih (by omega) (by omega) kk_prd_ok h hp
    | 11, h, hp => obtain ⟨a1, a2, a3, a4, a5, a6⟩ := hp.main (by omega); exact pp_una_ok (q := (e, c', S')) hcl ih h a1 a2 a3 a4 a5
    | 12, h, hp => exact pp_wh_ok (q := (e, c', S')) hcl ih h hp
    | 13, h, hp => obtain ⟨a1, a2, a3, a4, a5, a6⟩ := hp.main (by omega); exact pp_atom_ok (q := (e, c', S')) hcl ih h a1 a2 a3 a4 a5
    | 14, h, hp => obtain ⟨a1, a2, a3, a4, a5, a6⟩ := hp.main (by omega); exact pp_call_ok (q := (e, c', S')) hcl ih h a1 a2 a3 a4 a5 (a6 rfl)
    | 15, h, hp => exact pp_args_ok (q := (e, c', S')) hcl ih h hp
    | (m + 16), h, hp =>
      have h' : (none : Option PE) = some (.inr (e, c', S')) := h
      cases h'
