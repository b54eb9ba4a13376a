/-! group, groups of the reference -/
set_option maxRecDepth 100000
theorem ps_varb {z : MZ} {d n c b : Nat} {S σ : MS} (h : ps n c S σ) (hS : lx_S n c σ) (hV : pe_V n S) (h1 : pr_a S ≤ b) (h2 : b ≤ pr_v S) (hd : 1 ≤ d) : ml_C z mX6_variableHere d 0 [vR (some z.2.1), vI (nI b)] σ (fun v σ' _ => v = some (vI (if pg_fv n S b c < b then nI (pg_fv n S b c) else -1)) ∧ ps n c S σ' ∧ lx_S n c σ') (fun _ _ _ => False) := by
  obtain ⟨v1, v2, v3, v4, v5, v6, v7, v8, v9⟩ := hV.N
  have e2 := h.s2
  refine (X6_variableHere_P (a := pr_a S) (b := b) (N := pr_N S) h.1 hS (by omega) ?_ (by rw [h.s1 18 (by omega)]; exact v1) (by omega) (by rw [e2]; exact v5) h1 hd).mono (fun v σ' _ ⟨a, b⟩ => ?_) (fun _ _ _ q => q)
  · intro i hi
    rw [e2]
    exact v7 i (by omega)
  · subst b
    refine ⟨?_, h, hS⟩
    rw [a, lx_vs_cg e2]
    rfl
section
variable {z : MZ} {T : Nat → Int32} {n : Nat}
theorem X6_names_V {D first : Nat} {x1 : Int32} {S0 : MS} {r r1 : PE} (hw : ml_ws z) (hD : 8 ≤ D) (hx : ∀ k, r1 = .inl k → r = .inl k)
    (K : ∀ c1 S1 σ E, r1 = .inr (0, c1, S1) → ps n c1 S1 σ → ml_V z mX6_group (D, 1, (fun v σ' _ => pq_N0 n r v σ'), pq_X S0 r) 170 [(0, vR (some z.2.1)), (1, vI x1), (2, vI (nI first))] [] σ E 1) :
    ∀ f c S σ E, ps n c S σ → pg_I n c S → md_px S0 S → S.2 0 = T → pg_names T n f c S = some r1 → ml_V z mX6_group (D, 1, (fun v σ' _ => pq_N0 n r v σ'), pq_X S0 r) 7 [(0, vR (some z.2.1)), (1, vI x1), (2, vI (nI first)), (3, vI 1)] [] σ E 1 := by
  intro f
  induction f with
  | zero => intro c S σ E _ _ _ _ h; cases h
  | succ f ih =>
    intro c S σ E hs hI hpx hT h
    unfold pg_names at h
    obtain ⟨v1, v2, v3, v4, v5, v6, v7, v8, v9⟩ := hI.1.N
    have hvn : pr_v S ≤ 5000 := by have := hI.2.1; have := hI.2.2.1; have := hI.2.2.2; omega
    have er : ∀ {k : Int32}, pr_er k c = some r1 → pr_er k c = some r := fun {k} h => by rw [hx (k, c) (Option.some.inj h).symm]
    refine mbgroup_7 (fun q => absurd q (by decide)) (fun _ => ?_)
    refine mbgroup_11 (ps_name hs hT hw (Nat.le_refl 6)) (by show _ ≤ D; omega) (Nat.zero_le _) (ml_krv fun σ ⟨hs, hS⟩ => ?_) ml_no
    refine mbgroup_15 (fun q => ?_) (fun q => ?_)
    · have qn := lx_b1 q
      rw [if_neg (by exact fun u => u qn)] at h
      have hc : c < n := lx_kind_lt (T := T) (by rw [qn.1]; decide)
      refine mbgroup_23 (ps_var hs hS hI.1 (Nat.le_refl 1)) (by show _ ≤ D; omega) (Nat.zero_le _) (ml_krv fun σ ⟨hs, hS⟩ => ?_) ml_no
      have lev := (lx_find_spec (P := lx_vs S n c) (b := pr_v S) (pr_v S) (pr_a S) (by omega) v6).2.1
      refine mbgroup_31 (fun q => ?_) (fun q => ?_)
      · have qv := (lx_m1 (by unfold pr_fv; omega)).1 q
        rw [if_neg qv] at h
        have e19 : σ.1 19 = nI (pr_v S) := by rw [hs.s1 19 (by omega)]; exact v3
        have e18 : σ.1 18 = nI (pr_N S) := by rw [hs.s1 18 (by omega)]; exact v1
        have e99 : σ.1 19 - σ.2 12 (σ.1 18).toNatClampNeg = nI (pr_v S - pr_a S) := by rw [e19, e18, nI_clamp (by omega), hs.s2, v5, pk_sub v6]
        refine mbgroup_47 (by rw [e18]; exact vp_in_nI (by omega) (by decide)) (fun q => ?_) (fun q => ?_)
        · rw [e99] at q
          rw [if_neg (fun u => q (by rw [show pr_v S - pr_a S = 99 by omega]; rfl))] at h
          refine mbgroup_79 (by rw [e19]; exact vp_in_nI (by omega) (by decide)) ?_
          have hle := lx_end_le (T := T) hS.1
          have e7 := hS.2.2.2.1
          have e8 : σ.1 8 - σ.1 7 = nI (lx_end T n c - c) := by rw [hS.2.2.2.2.1, e7, hs.s2, hT, pk_sub hle.1]
          rw [e19, e8, e7, nI_clamp (by omega)]
          have hadd : ml_sf (ml_sa (ml_sa (ml_sa (ml_sa σ 20 (pr_v S) (nI c)) 21 (pr_v S) (nI (lx_end T n c - c))) 22 (pr_v S) (-1)) 23 (pr_v S) 0) 19 ((ml_sa (ml_sa (ml_sa (ml_sa σ 20 (pr_v S) (nI c)) 21 (pr_v S) (nI (lx_end T n c - c))) 22 (pr_v S) (-1)) 23 (pr_v S) 0).1 19 + 1) = pg_add σ (pr_v S) c (lx_end T n c) := by
            show ml_sf _ 19 (σ.1 19 + 1) = _
            rw [e19, nI_1]
            rfl
          have hsa := ps_add (v := pr_v S) (q := c) (e := lx_end T n c) hs
          have hIa := pg_add_I hI hc hT
          have hsm := pg_add_same (S := S) (v := pr_v S) (c := c) (e := lx_end T n c)
          have hTa : (pg_add S (pr_v S) c (lx_end T n c)).2 0 = T := by rw [hsm.T]; exact hT
          refine mbgroup_130 (P := fun v σ' _ => v = none ∧ ps n (lx_next T n c) (pg_add S (pr_v S) c (lx_end T n c)) σ') (PX := fun _ _ _ => False) (d' := 3) (b' := 0) (by rw [hadd]; exact ps_take hsa hTa (Nat.le_refl 3)) (by show _ ≤ D; omega) (Nat.zero_le _) (ml_kr0 fun σ hs => ?_) ml_no
          refine mbgroup_144 (ps_peek hs hTa (Nat.le_refl 2)) (by show _ ≤ D; omega) (Nat.zero_le _) (ml_krv fun σ ⟨hs, hS⟩ => ?_) ml_no
          refine mbgroup_148 (fun q => ?_) (fun q => ?_)
          · rw [if_neg q] at h
            refine mbgroup_157 (mbgroup_158 (fun _ => mbgroup_7 (fun _ => ?_) (fun u => absurd rfl u)) (fun u => absurd rfl u))
            exact K _ _ σ _ (Option.some.inj h).symm hs
          · rw [if_pos q] at h
            have hgt2 := lx_tk (T := T) (n := n) (c := lx_next T n c) (by rw [q]; decide)
            refine mbgroup_153 (mbgroup_158 (fun u => absurd u (by decide)) (fun _ => ?_))
            refine mbgroup_163 (ps_take hs hTa (Nat.le_refl 3)) (by show _ ≤ D; omega) (Nat.zero_le _) (ml_kr0 fun σ hs => ?_) ml_no
            refine mbgroup_167 ?_
            exact ih _ _ σ _ hs ⟨hIa.1, by have := hIa.2.1; omega, hgt2.2, hIa.2.2.2⟩ (hpx.tr hsm.px) hTa h
        · rw [e99] at q
          have q9 : pr_v S = pr_a S + 99 := by
            have := (nI_eq (a := pr_v S - pr_a S) (b := 99) (by omega) (by omega)).1 q
            omega
          rw [if_pos q9] at h
          refine mbgroup_66 (Nat.le_refl 1) (fun q => ?_)
          refine mbgroup_69 rfl (X23_init_C (Nat.le_refl 4)) (fun G g => g) (by show _ ≤ D; omega) (Nat.zero_le _) ?_
          exact mbgroup_78 rfl (fun G g => g.1) (fun G g => pq_X.er (er h) hpx g.2.1 (by rw [g.2.2, hS.2.2.2.1]) hs.2)
      · have qv : pr_fv n S c < pr_v S := Decidable.byContradiction fun u => q (by rw [if_neg u]; decide)
        rw [if_pos qv] at h
        refine mbgroup_34 (Nat.le_refl 1) (fun q => ?_)
        refine mbgroup_37 rfl (X23_init_C (Nat.le_refl 4)) (fun G g => g) (by show _ ≤ D; omega) (Nat.zero_le _) ?_
        exact mbgroup_46 rfl (fun G g => g.1) (fun G g => pq_X.er (er h) hpx g.2.1 (by rw [g.2.2, hS.2.2.2.1]) hs.2)
    · have qn := lx_b0.1 q
      rw [if_pos qn] at h
      refine mbgroup_18 (X6_cant_C hs.1 (Nat.le_refl 5)) (by show _ ≤ D; omega) (Nat.le_refl 1) (fun v σ'' G g1 g2 g3 => ?_) ml_no
      obtain ⟨⟨g4, g5⟩, q1, rfl, g6, g7, g8⟩ := g3
      refine (mbgroup_22 (E := fun G => hp_kd G q1 = 4 ∧ hp_i G q1 6 = 1 ∧ hp_i G q1 7 = nI c) rfl (fun G g => g.1) (fun G g => ?_)) G g1 g2 ⟨g6, g7, g8⟩
      exact pq_X.er (er h) hpx g.2.1 g.2.2 (g4.trans hs.2)
/-- the loop that sets the types of the group's variables -/
theorem pg_truth_V {jm : MJ} {first b : Nat} {x1 x4 : Int32} {σ : MS} (hx : x4 = 0 ∨ x4 = 1) (hb : σ.1 19 = nI b) (hb2 : b ≤ 6000) (K : ∀ E, ml_V z mX6_group jm 236 [(0, vR (some z.2.1)), (1, vI x1), (2, vI (nI first))] [] (pg_fill σ 24 x4 first b) E jm.2.1) :
    ∀ f i E, b ≤ i + f → first ≤ i → i ≤ b → ml_V z mX6_group jm 212 [(0, vR (some z.2.1)), (1, vI x1), (2, vI (nI first)), (4, vI x4), (5, vI (nI i))] [] (pg_fill σ 24 x4 first i) E jm.2.1 := by
  intro f
  induction f with
  | zero =>
    intro i E h1 h2 h3
    have e : i = b := by omega
    subst e
    exact mbgroup_212 (fun _ => K _) (fun q => absurd (by show σ.1 19 ≤ nI i; rw [hb]; exact nI_le (Nat.le_refl _) (by omega)) q)
  | succ f ih =>
    intro i E h1 h2 h3
    refine mbgroup_212 (fun q => ?_) (fun q => ?_)
    · have q' : nI b ≤ nI i := by rw [← hb]; exact q
      have q1 := (nI_leI (by omega) (by omega)).1 q'
      have e : i = b := by omega
      subst e
      exact K _
    · have q' : ¬ nI b ≤ nI i := by rw [← hb]; exact q
      have q1 : i < b := Nat.lt_of_not_le fun u => q' (nI_le u (by omega))
      refine mbgroup_221 (vp_in_nI (by omega) (by decide)) hx ?_
      rw [nI_clamp (by omega), nI_1, pg_fill_s h2]
      exact ih (i + 1) _ (by omega) (by omega) (by omega)
/-- the loop that sets their clocks -/
theorem pg_clock_V {jm : MJ} {first b N a v s : Nat} {x5 : Int32} {σ : MS} (hb : σ.1 19 = nI b) (hb2 : b ≤ 6000) (hN : σ.1 18 = nI N) (hN2 : N < 60) (ha : σ.2 12 N = nI a) (hav : a ≤ v) (hv : v < 6000) (hz0 : x5 = 0 → s = 1) (hz1 : ¬ x5 = 0 → s = 0) (K : ∀ G, jm.2.2.1 none (pg_fill σ 22 (nI (2 * (v - a) + s)) first b) G) :
    ∀ f i E, b ≤ i + f → first ≤ i → i ≤ b → ml_V z mX6_group jm 333 [(0, vR (some z.2.1)), (5, vI x5), (6, vI (nI v)), (7, vI (nI i))] [] (pg_fill σ 22 (nI (2 * (v - a) + s)) first i) E jm.2.1 := by
  intro f
  induction f with
  | zero =>
    intro i E h1 h2 h3
    have e : i = b := by omega
    subst e
    exact mbgroup_333 (fun _ => mbgroup_380 (fun G _ => K G)) (fun q => absurd (by show σ.1 19 ≤ nI i; rw [hb]; exact nI_le (Nat.le_refl _) (by omega)) q)
  | succ f ih =>
    intro i E h1 h2 h3
    refine mbgroup_333 (fun q => ?_) (fun q => ?_)
    · have q' : nI b ≤ nI i := by rw [← hb]; exact q
      have q1 := (nI_leI (by omega) (by omega)).1 q'
      have e : i = b := by omega
      subst e
      exact mbgroup_380 (fun G _ => K G)
    · have q' : ¬ nI b ≤ nI i := by rw [← hb]; exact q
      have q1 : i < b := Nat.lt_of_not_le fun u => q' (nI_le u (by omega))
      have ew : (2 : Int32) * (nI v - (pg_fill σ 22 (nI (2 * (v - a) + s)) first i).2 12 ((pg_fill σ 22 (nI (2 * (v - a) + s)) first i).1 18).toNatClampNeg) = nI (2 * (v - a)) := by
        show (2 : Int32) * (nI v - σ.2 12 (σ.1 18).toNatClampNeg) = _
        rw [hN, nI_clamp (by omega), ha, pk_sub hav]
        exact pk_mul 2 _
      have fin : ∀ E (s3 : Int32), nI (2 * (v - a)) + s3 = nI (2 * (v - a) + s) → ml_V z mX6_group jm 372 [(0, vR (some z.2.1)), (5, vI x5), (6, vI (nI v)), (7, vI (nI i))] [vI s3, vI (nI (2 * (v - a))), vI (nI i), vR (some (z.2.2.1 22))] (pg_fill σ 22 (nI (2 * (v - a) + s)) first i) E jm.2.1 := by
        intro E s3 e3
        refine mbgroup_372 (vp_in_nI (by omega) (by decide)) ?_
        rw [nI_clamp (by omega), nI_1, e3, pg_fill_s h2]
        exact ih (i + 1) _ (by omega) (by omega) (by omega)
      refine mbgroup_342 (by show vp_in (σ.1 18) 61; rw [hN]; exact vp_in_nI (by omega) (by decide)) (fun q4 => ?_) (fun q4 => ?_)
      · rw [ew]
        exact mbgroup_371 (fin _ _ (by rw [hz0 q4]; exact nI_1 _))
      · rw [ew]
        exact mbgroup_367 (fin _ _ (by rw [hz1 q4]; exact nI_add _ 0))
theorem X6_group_W {f c D : Nat} {vars : Bool} {x1 : Int32} {S σ : MS} {r : PE} (hw : ml_ws z) (hs : ps n c S σ) (hT : S.2 0 = T) (hI : pg_I n c S) (hx1 : x1 = if vars = true then 1 else 0) (h : pg_group T n f vars c S = some r) (hD : 8 ≤ D) : ml_C z mX6_group D 1 [vR (some z.2.1), vI x1] σ (fun v σ' _ => pq_N0 n r v σ') (pq_X S r) := by
  have hpx : md_px S S := md_px.rf
  obtain ⟨v1, v2, v3, v4, v5, v6, v7, v8, v9⟩ := hI.1.N
  refine ml_C_of (by decide) rfl (Nat.le_of_ble_eq_true rfl) ?_
  unfold pg_group at h
  obtain ⟨r1, h1, hxx, h⟩ := pr_b_some h
  refine mbgroup_0 ?_
  rw [hs.s1 19 (by omega), v3]
  refine X6_names_V hw hD hxx (fun c1 S1 σ E he hs => ?_) f c S σ _ hs hI hpx hT h1
  have h := h _ _ _ he
  rw [he] at h1
  obtain ⟨-, a2, a3, a4, a5⟩ := pg_names_ok _ _ _ _ _ _ h1 hI hT
  obtain ⟨w1, w2, w3, w4, w5, w6, w7, w8, w9⟩ := a2.1.N
  have hT1 : S1.2 0 = T := by rw [a4.T]; exact hT
  have hpx1 := hpx.tr a4.px
  refine mbgroup_170 (ps_must hs hT1 (Nat.le_refl 6)) (by show _ ≤ D; omega) (Nat.le_refl 1) (ml_kr0 fun σ ⟨hq, hs⟩ => ?_) (fun kd pl σ' ⟨g1, g2, g3, g4⟩ => by rw [if_neg g1] at h; exact pq_X.er h hpx1 g2 g3 g4)
  rw [if_pos hq] at h
  -- behind the type
  have ty : ∀ E σ (x4 : Int32), ps n (lx_next T n c1) S1 σ → x4 = (if lx_isW T n (lx_next T n c1) "bool" then 1 else 0) → ¬ (¬ lx_isW T n (lx_next T n c1) "bool" ∧ ¬ lx_isW T n (lx_next T n c1) "int") →
      ml_V z mX6_group (D, 1, (fun v σ' _ => pq_N0 n r v σ'), pq_X S r) 205 [(0, vR (some z.2.1)), (1, vI x1), (2, vI (nI (pr_v S))), (4, vI x4)] [] σ E 1 := by
    intro E σ x4 hs hx4 hok
    rw [if_neg hok, ← hx4] at h
    refine mbgroup_205 (ps_take hs hT1 (Nat.le_refl 3)) (by show _ ≤ D; omega) (Nat.zero_le _) (ml_kr0 fun σ hs => ?_) ml_no
    refine mbgroup_209 ?_
    have e19 : σ.1 19 = nI (pr_v S1) := by rw [hs.s1 19 (by omega)]; exact w3
    have h01 : x4 = 0 ∨ x4 = 1 := by
      rw [hx4]
      split
      · exact Or.inr rfl
      · exact Or.inl rfl
    have hs2 := ps_fill (k := 24) (a := pr_v S) (b := pr_v S1) (x := x4) hs (by omega)
    have hf := pg_fill_same (S := S1) (k := 24) (a := pr_v S) (b := pr_v S1) (x := x4) (Or.inr rfl)
    have hVf : pe_V n (pg_fill S1 24 x4 (pr_v S) (pr_v S1)) := pg_fill_V a2.1
    have hTf : (pg_fill S1 24 x4 (pr_v S) (pr_v S1)).2 0 = T := by rw [hf.T]; exact hT1
    have hpxf := hpx1.tr hf.px
    have haf : pr_a (pg_fill S1 24 x4 (pr_v S) (pr_v S1)) = pr_a S := by rw [hf.a, a4.a]
    have hvf : pr_v (pg_fill S1 24 x4 (pr_v S) (pr_v S1)) = pr_v S1 := rfl
    have start := pg_truth_V (z := z) (jm := (D, 1, (fun v σ' _ => pq_N0 n r v σ'), pq_X S r)) (first := pr_v S) (b := pr_v S1) (x1 := x1) (x4 := x4) (σ := σ) h01 e19 w4
    rw [show ml_V z mX6_group (D, 1, (fun v σ' _ => pq_N0 n r v σ'), pq_X S r) 212 [(0, vR (some z.2.1)), (1, vI x1), (2, vI (nI (pr_v S))), (4, vI x4), (5, vI (nI (pr_v S)))] [] σ (fun _ => True) 1 = ml_V z mX6_group (D, 1, (fun v σ' _ => pq_N0 n r v σ'), pq_X S r) 212 [(0, vR (some z.2.1)), (1, vI x1), (2, vI (nI (pr_v S))), (4, vI x4), (5, vI (nI (pr_v S)))] [] (pg_fill σ 24 x4 (pr_v S) (pr_v S)) (fun _ => True) 1 from by rw [pg_fill_0]]
    refine start (fun E => ?_) (pr_v S1) (pr_v S) _ (by omega) (Nat.le_refl _) (by omega)
    generalize hσ2 : pg_fill σ 24 x4 (pr_v S) (pr_v S1) = σ2 at hs2
    generalize hS2 : pg_fill S1 24 x4 (pr_v S) (pr_v S1) = S2 at h hs2 hVf hTf hpxf haf hvf hf
    obtain ⟨u1, u2, u3, u4, u5, u6, u7, u8, u9⟩ := hVf.N
    refine mbgroup_236 (fun q => ?_) (fun q => ?_)
    · have hvar : ¬ vars = true := fun u => by rw [hx1, if_pos u] at q; exact absurd q (by decide)
      rw [if_neg (fun u => hvar u.1)] at h
      exact mbgroup_250 (fun G _ => pq_ret0 h hs2)
    · have hvar : vars = true := Decidable.byContradiction fun u => q (by rw [hx1, if_neg u])
      refine mbgroup_240 (ps_is hs2 hTf hw (tx := "when") (by simp [lx_words]) (Nat.le_refl 4)) (by show _ ≤ D; omega) (Nat.zero_le _) (ml_krv fun σ ⟨hs, hS⟩ => ?_) ml_no
      refine mbgroup_247 (fun q => ?_) (fun q => ?_)
      · have qw := lx_b1 q
        rw [if_pos ⟨hvar, qw⟩] at h
        -- the clock
        have ck : ∀ E σ c2 (x5 : Int32) s, ps n c2 S2 σ → s < 2 → (x5 = 0 → s = 1) → (¬ x5 = 0 → s = 0) → pg_wh T n s (pr_v S) c2 S2 = some r → ml_V z mX6_group (D, 1, (fun v σ' _ => pq_N0 n r v σ'), pq_X S r) 273 [(0, vR (some z.2.1)), (2, vI (nI (pr_v S))), (5, vI x5)] [] σ E 1 := by
          intro E σ c2 x5 s hs hs2 hz0 hz1 h
          unfold pg_wh at h
          refine mbgroup_273 (ps_name hs hTf hw (Nat.le_refl 6)) (by show _ ≤ D; omega) (Nat.zero_le _) (ml_krv fun σ ⟨hs, hS⟩ => ?_) ml_no
          refine mbgroup_277 (fun q => ?_) (fun q => ?_)
          · have qn := lx_b1 q
            rw [if_neg (by exact fun u => u qn)] at h
            refine mbgroup_285 (ps_varb hs hS hVf (by rw [haf]; exact v6) (by rw [hvf]; omega) (Nat.le_refl 1)) (by show _ ≤ D; omega) (Nat.zero_le _) (ml_krv fun σ ⟨hs, hS⟩ => ?_) ml_no
            have thr : ∀ E, pr_er 2 c2 = some r → ml_V z mX6_group (D, 1, (fun v σ' _ => pq_N0 n r v σ'), pq_X S r) 307 [(0, vR (some z.2.1))] [] σ E 1 := by
              intro E h
              refine mbgroup_307 (Nat.le_refl 1) (fun q => ?_)
              refine mbgroup_310 rfl (X23_init_C (Nat.le_refl 4)) (fun G g => g) (by show _ ≤ D; omega) (Nat.zero_le _) ?_
              exact mbgroup_319 rfl (fun G g => g.1) (fun G g => pq_X.er h hpxf g.2.1 (by rw [g.2.2, hS.2.2.2.1]) hs.2)
            have sp := lx_find_spec (P := lx_vs S2 n c2) (b := pr_v S) (pr_v S) (pr_a S2) (by omega) (by rw [haf]; exact v6)
            refine mbgroup_290 (fun q => ?_) (fun q => ?_)
            · have qv := (lx_m1 (p := pg_fv n S2 (pr_v S) c2 < pr_v S) (k := pg_fv n S2 (pr_v S) c2) (by unfold pg_fv; omega)).1 q
              rw [if_pos (Or.inl qv)] at h
              exact thr _ h
            · have qv : pg_fv n S2 (pr_v S) c2 < pr_v S := Decidable.byContradiction fun u => q (by rw [if_neg u]; decide)
              have hle : pr_a S2 ≤ pg_fv n S2 (pr_v S) c2 := sp.1
              rw [if_pos qv]
              have hcl : (nI (pg_fv n S2 (pr_v S) c2)).toNatClampNeg = pg_fv n S2 (pr_v S) c2 := nI_clamp (by omega)
              refine mbgroup_297 (vp_in_nI (by omega) (by decide)) (fun q => ?_) (fun q => ?_)
              · rw [hcl, hs.s2] at q
                rw [if_neg (by rintro (u | u); exact u qv; exact q u)] at h
                refine mbgroup_320 (ps_shallow hs hS hVf hle (by rw [hvf]; omega) (Nat.le_refl 5)) (by show _ ≤ D; omega) (Nat.le_refl 1) (ml_kr0 fun σ ⟨qd, hs, hS⟩ => ?_) (fun kd pl σ' ⟨g1, g2, g3, g4⟩ => by rw [if_pos g1] at h; exact pq_X.er h hpxf g2 g3 g4)
                rw [if_neg (by exact fun u => u qd)] at h
                refine mbgroup_326 (ps_take hs hTf (Nat.le_refl 3)) (by show _ ≤ D; omega) (Nat.zero_le _) (ml_kr0 fun σ hs => ?_) ml_no
                refine mbgroup_330 ?_
                have e18 : σ.1 18 = nI (pr_N S2) := by rw [hs.s1 18 (by omega)]; exact u1
                have e19 : σ.1 19 = nI (pr_v S1) := by rw [hs.s1 19 (by omega), u3, hvf]
                rw [hvf] at h
                have ea : σ.2 12 (pr_N S2) = nI (pr_a S2) := by rw [hs.s2]; exact u5
                rw [show ml_V z mX6_group (D, 1, (fun v σ' _ => pq_N0 n r v σ'), pq_X S r) 333 [(0, vR (some z.2.1)), (5, vI x5), (6, vI (nI (pg_fv n S2 (pr_v S) c2))), (7, vI (nI (pr_v S)))] [] σ (fun _ => True) 1 = ml_V z mX6_group (D, 1, (fun v σ' _ => pq_N0 n r v σ'), pq_X S r) 333 [(0, vR (some z.2.1)), (5, vI x5), (6, vI (nI (pg_fv n S2 (pr_v S) c2))), (7, vI (nI (pr_v S)))] [] (pg_fill σ 22 (nI (2 * (pg_fv n S2 (pr_v S) c2 - pr_a S2) + s)) (pr_v S) (pr_v S)) (fun _ => True) 1 from by rw [pg_fill_0]]
                refine pg_clock_V e19 (by omega) e18 u2 ea hle (by omega) hz0 hz1 (fun G => pq_ret0 h ?_) (pr_v S1) (pr_v S) _ (by omega) (Nat.le_refl _) (by omega)
                exact ps_fill (k := 22) hs (by omega)
              · rw [hcl, hs.s2] at q
                rw [if_pos (Or.inr q)] at h
                exact thr _ h
          · have qn := lx_b0.1 q
            rw [if_pos qn] at h
            refine mbgroup_280 (X6_cant_C hs.1 (Nat.le_refl 5)) (by show _ ≤ D; omega) (Nat.le_refl 1) (fun v σ'' G g1 g2 g3 => ?_) ml_no
            obtain ⟨⟨g4, g5⟩, q1, rfl, g6, g7, g8⟩ := g3
            refine (mbgroup_284 (E := fun G => hp_kd G q1 = 4 ∧ hp_i G q1 6 = 1 ∧ hp_i G q1 7 = nI c2) rfl (fun G g => g.1) (fun G g => ?_)) G g1 g2 ⟨g6, g7, g8⟩
            exact pq_X.er h hpxf g.2.1 g.2.2 (g4.trans hs.2)
        refine mbgroup_251 (ps_take hs hTf (Nat.le_refl 3)) (by show _ ≤ D; omega) (Nat.zero_le _) (ml_kr0 fun σ hs => ?_) ml_no
        refine mbgroup_255 (ps_is hs hTf hw (tx := "not") (by simp [lx_words]) (Nat.le_refl 4)) (by show _ ≤ D; omega) (Nat.zero_le _) (ml_krv fun σ ⟨hs, hS⟩ => ?_) ml_no
        refine mbgroup_262 (fun q => ?_) (fun q => ?_)
        · rw [if_neg (lx_b0.1 q)] at h
          exact ck _ _ _ _ 1 hs (by omega) (fun _ => rfl) (fun u => absurd q u) h
        · rw [if_pos (lx_b1 q)] at h
          refine mbgroup_269 (ps_take hs hTf (Nat.le_refl 3)) (by show _ ≤ D; omega) (Nat.zero_le _) (ml_kr0 fun σ hs => ?_) ml_no
          exact ck _ _ _ _ 0 hs (by omega) (fun u => absurd u q) (fun _ => rfl) h
      · rw [if_neg (fun u => (lx_b0.1 q) u.2)] at h
        exact mbgroup_250 (fun G _ => pq_ret0 h hs)
  refine mbgroup_176 (ps_is hs hT1 hw (tx := "bool") (by simp [lx_words]) (Nat.le_refl 4)) (by show _ ≤ D; omega) (Nat.zero_le _) (ml_krv fun σ ⟨hs, hS⟩ => ?_) ml_no
  refine mbgroup_183 (fun q => ?_) (fun q => ?_)
  · exact ty _ _ _ hs rfl (fun u => u.1 (lx_b1 q))
  · have q1 := lx_b0.1 q
    refine mbgroup_190 (ps_is hs hT1 hw (tx := "int") (by simp [lx_words]) (Nat.le_refl 4)) (by show _ ≤ D; omega) (Nat.zero_le _) (ml_krv fun σ ⟨hs, hS⟩ => ?_) ml_no
    refine mbgroup_197 (fun q => ?_) (fun q => ?_)
    · exact ty _ _ _ hs rfl (fun u => u.2 (lx_b1 q))
    · rw [if_pos ⟨q1, lx_b0.1 q⟩] at h
      refine mbgroup_200 (X6_cant_C hs.1 (Nat.le_refl 5)) (by show _ ≤ D; omega) (Nat.le_refl 1) (fun v σ'' G g1 g2 g3 => ?_) ml_no
      obtain ⟨⟨g4, g5⟩, q1, rfl, g6, g7, g8⟩ := g3
      refine (mbgroup_204 (E := fun G => hp_kd G q1 = 4 ∧ hp_i G q1 6 = 1 ∧ hp_i G q1 7 = nI (lx_next T n c1)) rfl (fun G g => g.1) (fun G g => ?_)) G g1 g2 ⟨g6, g7, g8⟩
      exact pq_X.er h hpx1 g.2.1 g.2.2 (g4.trans hs.2)
end
