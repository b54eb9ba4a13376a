/-! THE PARSER of the reference: atom, call; the whole family -/
set_option maxRecDepth 100000
section
variable {z : MZ} {T : Nat → Int32} {n : Nat} {rec : PF}
theorem pr_dig_V {D c : Nat} {S σ : MS} {P : Option WV → MS → GH → Prop} {PX : Int32 → Int32 → MS → Prop} (hT : S.2 0 = T) (hs : ps n c S σ) (hS : lx_S n c σ) (v0 : Int32) (K : ∀ E, ml_V z mX6_atom (D, 1, P, PX) 44 [(0, vR (some z.2.1)), (2, vI v0)] [] σ E 1) : ∀ f k v E, lx_end T n c ≤ k + f → k ≤ lx_end T n c → pr_dig T (lx_end T n c) k v = v0 → ml_V z mX6_atom (D, 1, P, PX) 15 [(0, vR (some z.2.1)), (2, vI v), (3, vI (nI k))] [] σ E 1 := by
  have hn := hs.1.1
  have hle := lx_end_le (T := T) hS.1
  have e8 : σ.1 8 = nI (lx_end T n c) := by rw [hS.2.2.2.2.1, hs.s2, hT]
  intro f
  induction f with
  | zero =>
    intro k v E h1 h2 h3
    refine mbatom_15 (fun _ => ?_) (fun q => absurd (by rw [e8]; exact nI_le (by omega) (by omega)) q)
    rw [pr_dig_0 (by omega)] at h3
    rw [h3]
    exact K _
  | succ f ih =>
    intro k v E h1 h2 h3
    refine mbatom_15 (fun q => ?_) (fun q => ?_)
    · rw [e8] at q
      have q1 := (nI_leI (by omega) (by omega)).1 q
      rw [pr_dig_0 (by omega)] at h3
      rw [h3]
      exact K _
    · rw [e8] at q
      have q1 : k < lx_end T n c := Nat.lt_of_not_le fun u => q (nI_le u (by omega))
      refine mbatom_23 (vp_in_nI (by omega) (by decide)) ?_
      rw [nI_1, nI_clamp (by omega), hs.s2, hT]
      exact ih (k + 1) _ _ (by omega) (by omega) (by rw [← h3, pr_dig_1 q1])
theorem X6_atom_W {d c D : Nat} {S σ : MS} {r : PE} (ih : pq_IH z T n rec) (hw : ml_ws z) (hs : ps n c S σ) (hT : S.2 0 = T) (hpre : pq_pre n c S) (hd : d ≤ 40) (h : pp_atom T n rec d c S = some r) (hD : 20 * (41 - d) + 40 - 13 ≤ D) : ml_C z mX6_atom D 1 [vR (some z.2.1), vI (nI d)] σ (fun v σ' _ => pq_N n r v σ') (pq_X S r) := by
  obtain ⟨p, hp, hpc, hcn, hV⟩ := hpre
  have hn := hV.1
  have hpx : md_px S S := md_px.rf
  obtain ⟨v1, v2, v3, v4, v5, v6, v7, v8, v9⟩ := hV.N
  have hch0 : md_ch (S.2 35) (pm_first []) [] := by
    show (-1 : Int32) < 0
    decide
  refine ml_C_of (by decide) rfl (Nat.le_of_ble_eq_true rfl) ?_
  unfold pp_atom at h
  refine mbatom_0 (ps_peek hs hT (Nat.le_refl 2)) (by show _ ≤ D; omega) (Nat.zero_le _) (ml_krv fun σ ⟨hs, hS⟩ => ?_) ml_no
  refine mbatom_4 (fun q1 => ?_) (fun q => ?_)
  · rw [if_neg q1] at h
    have bool : ∀ E σ (t : Int32), ps n c S σ → lx_kind T n c ≠ 0 → pr_make S 1 t [] (lx_next T n c) = some r → ml_V z mX6_atom (D, 1, (fun v σ' _ => pq_N n r v σ'), pq_X S r) 92 [(0, vR (some z.2.1))] [vI t] σ E 1 := by
      intro E σ t hs hk h
      refine mbatom_92 (ps_take hs hT (Nat.le_refl 3)) (by show _ ≤ D; omega) (Nat.zero_le _) (ml_kr0 fun σ hs => ?_) ml_no
      refine mbatom_97 (ps_make hs hp (by omega) hV rfl hch0 (fun k hk => by cases hk) h (Nat.le_refl 5)) (by show _ ≤ D; omega) (Nat.le_refl 1) (ml_kr fun v σ g => ?_) (pq_kx (fun _ e => e) hpx)
      obtain ⟨e, c9, g1, rfl, g2⟩ := g
      exact mbatom_105 (fun G _ => ⟨e, c9, g1, rfl, g2⟩)
    refine mbatom_57 (ps_is hs hT hw (tx := "true") (by simp [lx_words]) (Nat.le_refl 4)) (by show _ ≤ D; omega) (Nat.zero_le _) (ml_krv fun σ ⟨hs, hS⟩ => ?_) ml_no
    refine mbatom_64 (fun q => ?_) (fun q2 => ?_)
    · have qt := lx_b1 q
      rw [if_pos qt] at h
      refine mbatom_77 (ps_is hs hT hw (tx := "true") (by simp [lx_words]) (Nat.le_refl 4)) (by show _ ≤ D; omega) (Nat.zero_le _) (ml_krv fun σ ⟨hs, hS⟩ => ?_) ml_no
      refine mbatom_84 (fun u => absurd qt (lx_b0.1 u)) (fun _ => ?_)
      exact mbatom_87 (bool _ _ _ hs (by rw [qt.1]; decide) h)
    · have qt := lx_b0.1 q2
      rw [if_neg qt] at h
      refine mbatom_67 (ps_is hs hT hw (tx := "false") (by simp [lx_words]) (Nat.le_refl 4)) (by show _ ≤ D; omega) (Nat.zero_le _) (ml_krv fun σ ⟨hs, hS⟩ => ?_) ml_no
      refine mbatom_74 (fun q3 => ?_) (fun q => ?_)
      · have qf := lx_b0.1 q3
        rw [if_neg qf] at h
        refine mbatom_106 (ps_peek hs hT (Nat.le_refl 2)) (by show _ ≤ D; omega) (Nat.zero_le _) (ml_krv fun σ ⟨hs, hS⟩ => ?_) ml_no
        refine mbatom_110 (fun q4 => ?_) (fun q => ?_)
        · rw [if_neg q4] at h
          refine mbatom_137 (ps_name hs hT hw (Nat.le_refl 6)) (by show _ ≤ D; omega) (Nat.zero_le _) (ml_krv fun σ ⟨hs, hS⟩ => ?_) ml_no
          refine mbatom_141 (fun q => ?_) (fun q => ?_)
          · have qn := lx_b1 q
            rw [if_neg (by exact fun u => u qn)] at h
            obtain ⟨t1, s1⟩ := lx_tkn qn
            have e7 := hS.2.2.2.1
            have lev := (lx_find_spec (P := lx_vs S n c) (b := pr_v S) (pr_v S) (pr_a S) (by omega) v6).2.1
            have len := (lx_find_spec (P := lx_ns S n c) (b := pr_N S) (pr_N S) 0 (by omega) (Nat.zero_le _)).2.1
            refine mbatom_149 (ps_var hs hS hV (Nat.le_refl 1)) (by show _ ≤ D; omega) (Nat.zero_le _) (ml_krv fun σ ⟨hs, hS⟩ => ?_) ml_no
            refine mbatom_162 (ps_node hs hS hV (Nat.le_refl 1)) (by show _ ≤ D; omega) (Nat.zero_le _) (ml_krv fun σ ⟨hs, hS⟩ => ?_) ml_no
            refine mbatom_167 (ps_take hs hT (Nat.le_refl 3)) (by show _ ≤ D; omega) (Nat.zero_le _) (ml_kr0 fun σ hs => ?_) ml_no
            refine mbatom_173 (ps_peek hs hT (Nat.le_refl 2)) (by show _ ≤ D; omega) (Nat.zero_le _) (ml_krv fun σ ⟨hs, hS⟩ => ?_) ml_no
            rw [e7]
            refine mbatom_177 (fun q5 => ?_) (fun q5 => ?_)
            · rw [if_neg q5] at h
              refine mbatom_205 (fun q6 => ?_) (fun q6 => ?_)
              · have qv : pr_fv n S c < pr_v S := Decidable.byContradiction fun u => absurd ((lx_m1 (by unfold pr_fv; omega)).2 u) (Int32.not_lt.2 q6)
                rw [if_pos qv] at h ⊢
                have e18 : σ.1 18 = nI (pr_N S) := by rw [hs.s1 18 (by omega)]; exact v1
                refine mbatom_219 (P := fun v σ' _ => pq_N n r v σ') (PX := pq_X S r) (d' := 5) (b' := 1) (by rw [e18]; exact vp_in_nI (by omega) (by decide)) ?_ (by show _ ≤ D; omega) (Nat.le_refl 1) (ml_kr fun v σ g => ?_) (pq_kx (fun _ e => e) hpx)
                · rw [e18, nI_clamp (by omega), hs.s2, v5, pk_sub (pr_fv_le hV)]
                  exact ps_make hs hp (by omega) hV rfl hch0 (fun k hk => by cases hk) h (Nat.le_refl 5)
                · obtain ⟨e, c9, g1, rfl, g2⟩ := g
                  exact mbatom_237 (fun G _ => ⟨e, c9, g1, rfl, g2⟩)
              · have qv : ¬ pr_fv n S c < pr_v S := fun u => q6 (by rw [if_pos u]; exact nI_pos' (by omega))
                rw [if_neg qv] at h
                refine mbatom_209 (Nat.le_refl 1) (fun q => ?_)
                refine mbatom_212 rfl (X23_init_C (Nat.le_refl 4)) (fun G g => g) (by show _ ≤ D; omega) (Nat.zero_le _) ?_
                exact mbatom_218 rfl (fun G g => g.1) (fun G g => pq_X.er h hpx g.2.1 g.2.2 hs.2)
            · rw [if_pos q5] at h
              refine mbatom_182 (fun q6 => ?_) (fun q6 => ?_)
              · have qv : pr_fn n S c < pr_N S := Decidable.byContradiction fun u => absurd ((lx_m1 (by unfold pr_fn; omega)).2 u) (Int32.not_lt.2 q6)
                rw [if_pos qv] at h ⊢
                refine mbatom_197 (ih.2.1 (pr_fn n S c) d _ S σ r (20 * (41 - d) + 26) qv hs hT ⟨_, hp, by omega, by omega, hV⟩ hd h (Nat.le_refl _)) (by show _ ≤ D; omega) (Nat.le_refl 1) (ml_kr fun v σ g => ?_) (pq_kx (fun _ e => e) hpx)
                obtain ⟨e, c9, g1, rfl, g2⟩ := g
                exact mbatom_204 (fun G _ => ⟨e, c9, g1, rfl, g2⟩)
              · have qv : ¬ pr_fn n S c < pr_N S := fun u => q6 (by rw [if_pos u]; exact nI_pos' (by omega))
                rw [if_neg qv] at h
                refine mbatom_187 (Nat.le_refl 1) (fun q => ?_)
                refine mbatom_190 rfl (X23_init_C (Nat.le_refl 4)) (fun G g => g) (by show _ ≤ D; omega) (Nat.zero_le _) ?_
                exact mbatom_196 rfl (fun G g => g.1) (fun G g => pq_X.er h hpx g.2.1 g.2.2 hs.2)
          · have qn := lx_b0.1 q
            rw [if_pos qn] at h
            refine mbatom_144 (X6_cant_C hs.1 (Nat.le_refl 5)) (by show _ ≤ D; omega) (Nat.le_refl 1) (fun v σ'' G g1 g2 g3 => ?_) ml_no
            obtain ⟨⟨g4, g5⟩, q1, rfl, g6, g7, g8⟩ := g3
            refine (mbatom_148 (E := fun G => hp_kd G q1 = 4 ∧ hp_i G q1 6 = 1 ∧ hp_i G q1 7 = nI c) rfl (fun G g => g.1) (fun G g => ?_)) G g1 g2 ⟨g6, g7, g8⟩
            exact pq_X.er h hpx g.2.1 g.2.2 (g4.trans hs.2)
        · rw [if_pos q] at h
          obtain ⟨t1, s1⟩ := lx_tk (T := T) (n := n) (c := c) (by rw [q]; decide)
          obtain ⟨r1, h1, hx1, h⟩ := pr_b_some h
          refine mbatom_115 (ps_take hs hT (Nat.le_refl 3)) (by show _ ≤ D; omega) (Nat.zero_le _) (ml_kr0 fun σ hs => ?_) ml_no
          refine mbatom_119 (ps_nest hs hd (Nat.le_refl 5)) (by show _ ≤ D; omega) (Nat.le_refl 1) (ml_krv fun σ ⟨hd1, hs⟩ => ?_) (ih.nx h1 (m := 0) (by omega) hx1 hpx)
          refine mbatom_125 (ih.1 0 (d + 1) _ S σ r1 (20 * (41 - (d + 1)) + 40 - 0) (by decide) hs hT ⟨_, hp, by omega, by omega, hV⟩ (by omega) h1 (Nat.le_refl _)) (by show _ ≤ D; omega) (Nat.le_refl 1) (pq_kr fun x1 c1 σ he1 hs => ?_) (pq_kx hx1 hpx)
          generalize lx_nz σ = S1 at he1 hs
          have h := h _ _ _ he1
          obtain ⟨hR1, hp1, hV1, hT1, hpx1, ha1, hb1, hd10, he10⟩ := ih.R4 h1 he1 (by omega) hp (by omega) (by omega) hV hT hpx (fun e => absurd e (by omega))
          refine mbatom_128 (ps_must hs hT1 (Nat.le_refl 6)) (by show _ ≤ D; omega) (Nat.le_refl 1) (ml_kr0 fun σ ⟨hq, hs⟩ => ?_) (fun kd pl σ' ⟨g1, g2, g3, g4⟩ => by rw [if_neg g1] at h; exact pq_X.er h hpx1 g2 g3 g4)
          rw [if_pos hq] at h
          exact mbatom_135 (fun G _ => pq_ret h hs)
      · have qf := lx_b1 q
        rw [if_pos qf] at h
        refine mbatom_77 (ps_is hs hT hw (tx := "true") (by simp [lx_words]) (Nat.le_refl 4)) (by show _ ≤ D; omega) (Nat.zero_le _) (ml_krv fun σ ⟨hs, hS⟩ => ?_) ml_no
        refine mbatom_84 (fun _ => ?_) (fun u => absurd (lx_b1 u) qt)
        exact mbatom_91 (bool _ _ _ hs (by rw [qf.1]; decide) h)
  · rw [if_pos q] at h
    obtain ⟨t1, s1⟩ := lx_tk (T := T) (n := n) (c := c) (by rw [q]; decide)
    have hle := lx_end_le (T := T) hS.1
    refine mbatom_8 ?_
    rw [hS.2.2.2.1]
    refine pr_dig_V hT hs hS _ (fun E => ?_) n c 0 _ (by omega) hle.1 rfl
    refine mbatom_44 (ps_take hs hT (Nat.le_refl 3)) (by show _ ≤ D; omega) (Nat.zero_le _) (ml_kr0 fun σ hs => ?_) ml_no
    refine mbatom_48 (ps_make hs hp (by omega) hV rfl hch0 (fun k hk => by cases hk) h (Nat.le_refl 5)) (by show _ ≤ D; omega) (Nat.le_refl 1) (ml_kr fun v σ g => ?_) (pq_kx (fun _ e => e) hpx)
    obtain ⟨e, c9, g1, rfl, g2⟩ := g
    exact mbatom_56 (fun G _ => ⟨e, c9, g1, rfl, g2⟩)
theorem X6_call_W {k d c D : Nat} {S σ : MS} {r : PE} (ih : pq_IH z T n rec) 
    (lp : ∀ S0 lo l c p S σ E, ps n c S σ → S.2 0 = T → md_px S0 S → pp_pre n 15 k l lo p c S → rec 15 d k l c S = some r → ml_V z mX6_call (D, 1, (fun v σ' _ => pq_N n r v σ'), pq_X S0 r) 19 [(0, vR (some z.2.1)), (1, vI (nI k)), (2, vI (nI d)), (3, vI (pm_first l)), (4, vI (nI (l.getLastD 0)))] [] σ E 1)
    (hk : k < pr_N S) (hs : ps n c S σ) (hT : S.2 0 = T) (hpre : pq_pre n c S) (hd : d ≤ 40) (h : pp_call T n rec d k c S = some r) (hD : 20 * (41 - d) + 26 ≤ D) : ml_C z mX6_call D 1 [vR (some z.2.1), vI (nI k), vI (nI d)] σ (fun v σ' _ => pq_N n r v σ') (pq_X S r) := by
  obtain ⟨p, hp, hpc, hcn, hV⟩ := hpre
  have hn := hV.1
  have hpx : md_px S S := md_px.rf
  refine ml_C_of (by decide) rfl (Nat.le_of_ble_eq_true rfl) ?_
  unfold pp_call at h
  refine mbcall_0 (ps_must hs hT (Nat.le_refl 6)) (by show _ ≤ D; omega) (Nat.le_refl 1) (ml_kr0 fun σ ⟨hq, hs⟩ => ?_) (fun kd pl σ' ⟨g1, g2, g3, g4⟩ => by rw [if_neg g1] at h; exact pq_X.er h hpx g2 g3 g4)
  rw [if_pos hq] at h
  obtain ⟨t1, s1⟩ := lx_tk (T := T) (n := n) (c := c) (by rw [hq]; decide)
  obtain ⟨r1, h1, hx1, h⟩ := pr_b_some h
  refine mbcall_6 (ps_nest hs hd (Nat.le_refl 5)) (by show _ ≤ D; omega) (Nat.le_refl 1) (ml_krv fun σ ⟨hd1, hs⟩ => ?_) (ih.nx h1 (m := 0) (by omega) hx1 hpx)
  refine mbcall_12 (ih.1 0 (d + 1) _ S σ r1 (20 * (41 - (d + 1)) + 40 - 0) (by decide) hs hT ⟨_, hp, by omega, by omega, hV⟩ (by omega) h1 (Nat.le_refl _)) (by show _ ≤ D; omega) (Nat.le_refl 1) (pq_kr fun x1 c1 σ he1 hs => ?_) (pq_kx hx1 hpx)
  generalize lx_nz σ = S1 at he1 hs
  have h := h _ _ _ he1
  obtain ⟨hR1, hp1, hV1, hT1, hpx1, ha1, hb1, hd10, he10⟩ := ih.R4 h1 he1 (by omega) hp (by omega) (by omega) hV hT hpx (fun e => absurd e (by omega))
  refine mbcall_15 ?_
  refine lp S p [x1] c1 (x1 + 1) S1 σ _ hs hT1 hpx1 ⟨hp1, by omega, by omega, hV1, ?_⟩ h
  rw [if_neg (by omega), if_pos rfl]
  obtain ⟨s1', x1', y1, z1, r1', u1, v1, w1, f1, l1, w1'⟩ := hR1
  refine ⟨by rw [s1'.N]; exact hk, by simp, ⟨l1, z1, by omega, rfl⟩, ⟨rfl, ?_⟩, w1'⟩
  rw [r1']
  show (-1 : Int32) < 0
  decide
theorem X6_args_L {D d k c p lo : Nat} {l : List Nat} {S0 S σ : MS} {r : PE} (ih : pq_IH z T n rec) (hih : ∀ e c' S', rec 15 d k l c S = some (.inr (e, c', S')) → True) (hd : d ≤ 40) (hD : 20 * (41 - d) + 26 ≤ D)
    (lp : ∀ l c p S σ E, ps n c S σ → S.2 0 = T → md_px S0 S → pp_pre n 15 k l lo p c S → rec 15 d k l c S = some r → ml_V z mX6_call (D, 1, (fun v σ' _ => pq_N n r v σ'), pq_X S0 r) 19 [(0, vR (some z.2.1)), (1, vI (nI k)), (2, vI (nI d)), (3, vI (pm_first l)), (4, vI (nI (l.getLastD 0)))] [] σ E 1)
    (hs : ps n c S σ) (hT : S.2 0 = T) (hpx : md_px S0 S) (hpre : pp_pre n 15 k l lo p c S) (h : pp_args T n rec d k l c S = some r) (E : GH → Prop) :
    ml_V z mX6_call (D, 1, (fun v σ' _ => pq_N n r v σ'), pq_X S0 r) 19 [(0, vR (some z.2.1)), (1, vI (nI k)), (2, vI (nI d)), (3, vI (pm_first l)), (4, vI (nI (l.getLastD 0)))] [] σ E 1 := by
  obtain ⟨hp, hpc, hcn, hV, h5⟩ := id hpre
  rw [if_neg (by omega), if_pos rfl] at h5
  obtain ⟨hk, hl0, hpk, hch, hww⟩ := h5
  have hlast := pw_k_last l lo hl0 hpk
  have hmem : ∀ k ∈ l, lo ≤ k ∧ k < p := (pw_k_mem l lo hpk).2
  have hn := hV.1
  obtain ⟨v1, v2, v3, v4, v5, v6, v7, v8, v9⟩ := hV.N
  have hf : pm_first l = nI (l.headD 0) := by
    obtain ⟨k0, l0, e⟩ := List.exists_cons_of_ne_nil hl0
    rw [e]
    rfl
  unfold pp_args at h
  refine mbcall_19 (ps_peek hs hT (Nat.le_refl 2)) (by show _ ≤ D; omega) (Nat.zero_le _) (ml_krv fun σ ⟨hs, hS⟩ => ?_) ml_no
  refine mbcall_23 (fun q => ?_) (fun q => ?_)
  · rw [if_neg q] at h
    refine mbcall_60 (ps_must hs hT (Nat.le_refl 6)) (by show _ ≤ D; omega) (Nat.le_refl 1) (ml_kr0 fun σ ⟨hq, hs⟩ => ?_) (fun kd pl σ' ⟨g1, g2, g3, g4⟩ => by rw [if_neg g1] at h; exact pq_X.er h hpx g2 g3 g4)
    rw [if_pos hq] at h
    obtain ⟨t1, s1⟩ := lx_tk (T := T) (n := n) (c := c) (by rw [hq]; decide)
    unfold pr_call at h
    obtain ⟨r1, h1, hx1, h⟩ := pr_b_some h
    refine mbcall_66 (ps_make hs hp (by omega) hV rfl hch (fun k hk => (hmem k hk).2) h1 (Nat.le_refl 5)) (by show _ ≤ D; omega) (Nat.le_refl 1) (pq_kr fun x1 c1 σ he1 hs => ?_) (pq_kx hx1 hpx)
    generalize lx_nz σ = S1 at he1 hs
    have h := h _ _ _ he1
    rw [he1] at h1
    obtain ⟨e1, e2, hM⟩ := pr_make_ok h1 hp (by omega)
    dsimp only at e1 e2 hM
    have e18 : σ.1 18 = nI (pr_N S1) := by rw [hs.s1 18 (by omega), hM.1.1 18 (by omega), hM.1.N]; exact v1
    have hN1 : pr_N S1 = pr_N S := hM.1.N
    refine mbcall_74 (by rw [e18]; exact vp_in_nI (by omega) (by decide)) (vp_in_nI (by omega) (by decide)) (fun G => ?_)
    rw [e18, nI_clamp (by omega), nI_clamp (by omega)]
    refine pq_ret h ?_
    have g1 := ps_sa (k := 16) (j := pr_N S1) (v := σ.2 16 (pr_N S1) + 1) hs (by omega)
    have g2 := ps_sa (k := 37) (j := x1) (v := σ.2 16 (pr_N S1)) g1 (by omega)
    rw [show pm_cl S1 (pr_N S1) x1 = ml_sa (ml_sa S1 16 (pr_N S1) (σ.2 16 (pr_N S1) + 1)) 37 x1 (σ.2 16 (pr_N S1)) from by rw [pm_cl, hs.s2]]
    exact g2
  · rw [if_pos q] at h
    obtain ⟨t1, s1⟩ := lx_tk (T := T) (n := n) (c := c) (by rw [q]; decide)
    obtain ⟨r1, h1, hx1, h⟩ := pr_b_some h
    refine mbcall_28 (ps_take hs hT (Nat.le_refl 3)) (by show _ ≤ D; omega) (Nat.zero_le _) (ml_kr0 fun σ hs => ?_) ml_no
    refine mbcall_32 (ps_nest hs hd (Nat.le_refl 5)) (by show _ ≤ D; omega) (Nat.le_refl 1) (ml_krv fun σ ⟨hd1, hs⟩ => ?_) (ih.nx h1 (m := 0) (by omega) hx1 hpx)
    refine mbcall_44 (ih.1 0 (d + 1) _ S σ r1 (20 * (41 - (d + 1)) + 40 - 0) (by decide) hs hT ⟨_, hp, by omega, by omega, hV⟩ (by omega) h1 (Nat.le_refl _)) (by show _ ≤ D; omega) (Nat.le_refl 1) (pq_kr fun x1 c1 σ he1 hs => ?_) (pq_kx hx1 hpx)
    generalize lx_nz σ = S1 at he1 hs
    have h := h _ _ _ he1
    obtain ⟨hR1, hp1, hV1, hT1, hpx1, ha1, hb1, hd10, he10⟩ := ih.R4 h1 he1 (by omega) hp (by omega) (by omega) hV hT hpx (fun e => absurd e (by omega))
    have hcl : (nI (l.getLastD 0)).toNatClampNeg = l.getLastD 0 := nI_clamp (by omega)
    have sb : pe_same S1 (ml_sa S1 35 (l.getLastD 0) (nI x1)) := ⟨fun k _ => rfl, fun k _ _ h3 => by
      funext j
      rw [ml_sa_a, if_neg (by omega)]⟩
    refine mbcall_47 (vp_in_nI (by omega) (by decide)) (vp_in_nI (by omega) (by decide)) ?_
    rw [hcl, ml_sa_a, if_pos rfl, if_pos rfl]
    have e1 : pm_first (l ++ [x1]) = pm_first l := by
      obtain ⟨k0, l0, e⟩ := List.exists_cons_of_ne_nil hl0
      rw [e]
      rfl
    have e2 : (l ++ [x1]).getLastD 0 = x1 := by simp
    have go := lp (l ++ [x1]) c1 (x1 + 1) (ml_sa S1 35 (l.getLastD 0) (nI x1)) (ml_sa σ 35 (l.getLastD 0) (nI x1)) (fun _ => True) (ps_sa hs (by omega)) (by rw [sb.2 0 (by omega) (by omega) (by omega)]; exact hT1) (hpx1.tr sb.px) ?_ h
    · rw [e1, e2] at go
      exact go
    · obtain ⟨s1', x1', y1, z1, r1', u1, v1', w1, f1, l1, w1'⟩ := hR1
      have hB : ∀ j, (ml_sa S1 35 (l.getLastD 0) (nI x1)).2 35 j = if j = l.getLastD 0 then nI x1 else S1.2 35 j := fun j => by rw [ml_sa_a, if_pos rfl]
      have hq : ∀ q j, q ≠ 35 → (ml_sa S1 35 (l.getLastD 0) (nI x1)).2 q j = S1.2 q j := fun q j hq => by rw [ml_sa_a, if_neg hq]
      have hlast' : lo ≤ l.getLastD 0 := by
        have hm : l.getLastD 0 ∈ l := by
          rw [List.getLastD_eq_getLast?, List.getLast?_eq_some_getLast hl0]
          exact List.getLast_mem hl0
        exact (hmem _ hm).1
      refine ⟨x1', by omega, by omega, hV1.same sb, ?_⟩
      rw [if_neg (by omega), if_pos rfl]
      have hK : (ml_sa S1 35 (l.getLastD 0) (nI x1)).2 34 = S1.2 34 := funext fun j => hq 34 j (by omega)
      have hlw : ∀ k, k < p → lw (S1.2 34) k = lw (S.2 34) k := fun k hk' => lw_cg (p - 1) k (by omega) (fun j hj => f1 34 j (by omega) (by omega) (by omega))
      refine ⟨by rw [sb.N, s1'.N]; exact hk, by simp, ?_, ?_, ?_⟩
      · rw [hK]
        exact pw_k_app l lo (pw_k_cg l lo (fun k hk' => (hlw k hk').symm) hpk) l1 z1
      · have e0 : (ml_sa S1 35 (l.getLastD 0) (nI x1)).2 35 = fun j => if j = l.getLastD 0 then nI x1 else S1.2 35 j := funext hB
        rw [e0, e1]
        exact md_ch_app l lo _ hl0 hpk z1 (by rw [r1']; decide) (md_ch_cg l _ (fun k hk' => (f1 35 k (by omega) (by omega) (hmem k hk').2).symm) hch)
      · have A1 : pw (ml_sa S1 35 (l.getLastD 0) (nI x1)) lo p := hww.cg (s1'.tr sb) (fun q j a1 a2 a3 => by rw [hq q j (by omega), f1 q j a1 (by omega) a3]) (fun j a1 a2 => by rw [hB, if_neg (by omega), f1 35 j (by omega) (by omega) (by omega)])
        have A2 : pw (ml_sa S1 35 (l.getLastD 0) (nI x1)) p (x1 + 1) := w1'.cg sb (fun q j a1 a2 a3 => hq q j (by omega)) (fun j a1 a2 => by rw [hB, if_neg (by omega)])
        exact A1.cat A2 (by omega)
end
