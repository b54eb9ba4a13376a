/-! THE PARSER of the reference: names; unary, atom, call -/
set_option maxRecDepth 100000
theorem lx_vs_cg {n c : Nat} {S σ : MS} (h : σ.2 = S.2) : lx_vs σ n c = lx_vs S n c := by
  funext i
  unfold lx_vs
  rw [h]
theorem lx_ns_cg {n c : Nat} {S σ : MS} (h : σ.2 = S.2) : lx_ns σ n c = lx_ns S n c := by
  funext i
  unfold lx_ns
  rw [h]
theorem md_dep_cg {S σ : MS} {a : Nat} (h : σ.2 = S.2) : ∀ f v, md_dep σ a f v = md_dep S a f v := by
  intro f
  induction f with
  | zero => intro v; rfl
  | succ f ih =>
    intro v
    rw [md_dep, md_dep, h]
    split
    · rfl
    · rw [ih]
section
variable {z : MZ} {d n c : Nat} {T : Nat → Int32} {S σ : MS}
theorem ps_var (h : ps n c S σ) (hS : lx_S n c σ) (hV : pe_V n S) (hd : 1 ≤ d) : ml_C z mX6_variableHere d 0 [vR (some z.2.1), vI (σ.1 19)] σ (fun v σ' _ => v = some (vI (if pr_fv n S c < pr_v S then nI (pr_fv n S c) else -1)) ∧ ps n c S σ' ∧ lx_S n c σ') (fun _ _ _ => False) := by
  obtain ⟨v1, v2, v3, v4, v5, v6, v7, v8, v9⟩ := hV.N
  have h2 := h.s2
  rw [h.s1 19 (by omega), v3]
  refine (X6_variableHere_P (a := pr_a S) (b := pr_v S) (N := pr_N S) h.1 hS v4 ?_ (by rw [h.s1 18 (by omega)]; exact v1) (by omega) (by rw [h2]; exact v5) v6 hd).mono (fun v σ' _ ⟨a, b⟩ => ?_) (fun _ _ _ q => q)
  · intro i hi
    rw [h2]
    exact v7 i hi
  · subst b
    refine ⟨?_, h, hS⟩
    rw [a, lx_vs_cg h2]
    rfl
theorem ps_node (h : ps n c S σ) (hS : lx_S n c σ) (hV : pe_V n S) (hd : 1 ≤ d) : ml_C z mX6_nodeHere d 0 [vR (some z.2.1)] σ (fun v σ' _ => v = some (vI (if pr_fn n S c < pr_N S then nI (pr_fn n S c) else -1)) ∧ ps n c S σ' ∧ lx_S n c σ') (fun _ _ _ => False) := by
  obtain ⟨v1, v2, v3, v4, v5, v6, v7, v8, v9⟩ := hV.N
  have h2 := h.s2
  refine (X6_nodeHere_P (b := pr_N S) h.1 hS (by rw [h.s1 18 (by omega)]; exact v1) (by omega) ?_ hd).mono (fun v σ' _ ⟨a, b⟩ => ?_) (fun _ _ _ q => q)
  · intro i hi
    rw [h2]
    exact v8 i hi
  · subst b
    refine ⟨?_, h, hS⟩
    rw [a, lx_ns_cg h2]
    rfl
theorem ps_shallow {v : Nat} (h : ps n c S σ) (hS : lx_S n c σ) (hV : pe_V n S) (h1 : pr_a S ≤ v) (h2 : v < pr_v S) (hd : 5 ≤ d) : ml_C z mX6_shallow d 1 [vR (some z.2.1), vI (nI v)] σ (fun u σ' _ => u = none ∧ md_dep S (pr_a S) (v + 1) v < 8 ∧ ps n c S σ' ∧ lx_S n c σ') (fun kd pl σ' => ¬ md_dep S (pr_a S) (v + 1) v < 8 ∧ kd = 3 ∧ pl = nI c ∧ lx_nz σ' = S) := by
  obtain ⟨v1, v2, v3, v4, v5, v6, v7, v8, v9⟩ := hV.N
  have e2 := h.s2
  refine (X6_shallow_P (a := pr_a S) (b := pr_v S) (N := pr_N S) hS v4 ?_ (by rw [h.s1 18 (by omega)]; exact v1) (by omega) (by rw [e2]; exact v5) hd h1 h2).mono (fun u σ' _ ⟨a, b, e⟩ => ?_) (fun kd pl σ' ⟨a, b, e, f⟩ => ?_)
  · intro u hu hu2
    rw [e2]
    exact v9 u hu hu2
  · subst e
    rw [md_dep_cg e2] at a
    exact ⟨b, a, h, hS⟩
  · subst f
    rw [md_dep_cg e2] at a
    exact ⟨a, b, e, h.2⟩
end
theorem pr_fv_le {n c : Nat} {S : MS} (hV : pe_V n S) : pr_a S ≤ pr_fv n S c := (lx_find_spec (P := lx_vs S n c) (b := pr_v S) (pr_v S) (pr_a S) (by omega) hV.N.2.2.2.2.2.1).1
/-- a name that stands for no number -/
theorem lx_m1 {p : Prop} {i : Decidable p} {k : Nat} (hk : k < 2 ^ 31) : (@ite Int32 p i (nI k) (-1) < 0) ↔ ¬ p := by
  split
  · exact ⟨fun h => absurd h (nI_pos hk), fun h => absurd ‹p› h⟩
  · exact ⟨fun _ => ‹¬ p›, fun _ => by decide⟩
section
variable {z : MZ} {T : Nat → Int32} {n : Nat} {rec : PF}
theorem X6_unary_W {d c D : Nat} {S σ : MS} {r : PE} (ih : pq_IH z T n rec) (hw : ml_ws z)
    (lp : ∀ S0 lo a c p S σ E, ps n c S σ → S.2 0 = T → md_px S0 S → pp_pre n 12 a [] lo p c S → rec 12 d a [] c S = some r → ml_V z mX6_unary (D, 1, (fun v σ' _ => pq_N n r v σ'), pq_X S0 r) 92 [(0, vR (some z.2.1)), (3, vI (nI a))] [] σ E 1)
    (hs : ps n c S σ) (hT : S.2 0 = T) (hpre : pq_pre n c S) (hd : d ≤ 40) (h : pp_una T n rec d c S = some r) (hD : 20 * (41 - d) + 40 - 11 ≤ D) : ml_C z mX6_unary D 1 [vR (some z.2.1), vI (nI d)] σ (fun v σ' _ => pq_N n r v σ') (pq_X S r) := by
  obtain ⟨p, hp, hpc, hcn, hV⟩ := hpre
  have hn := hV.1
  have hpx : md_px S S := md_px.rf
  refine ml_C_of (by decide) rfl (Nat.le_of_ble_eq_true rfl) ?_
  unfold pp_una at h
  rw [if_neg (by omega)] at h
  have go : ∀ E σ t, ps n c S σ → kk_una T n c = t → ml_V z mX6_unary (D, 1, (fun v σ' _ => pq_N n r v σ'), pq_X S r) 60 [(0, vR (some z.2.1)), (1, vI (nI d))] [vI t] σ E 1 := by
    intro E σ t hs ht
    rw [ht] at h
    refine mbunary_60 (fun q => ?_) (fun q => ?_)
    · have h0 : t = 0 := Decidable.byContradiction fun u => by
        have := (kk_una_ok (T := T) (n := n) (c := c) (by rw [ht]; exact u)).2.1
        rw [ht] at this
        exact absurd (Int32.le_trans this q) (by decide)
      rw [if_pos h0] at h
      obtain ⟨r1, h1, hx1, h⟩ := pr_b_some h
      refine mbunary_86 (ih.1 13 d _ S σ r1 (20 * (41 - d) + 40 - 13) (by decide) hs hT ⟨_, hp, by omega, by omega, hV⟩ (by omega) h1 (Nat.le_refl _)) (by show _ ≤ D; omega) (Nat.le_refl 1) (pq_kr fun x1 c1 σ he1 hs => ?_) (pq_kx hx1 hpx)
      generalize lx_nz σ = S1 at he1 hs
      have h := h _ _ _ he1
      obtain ⟨hR1, hp1, hV1, hT1, hpx1, ha1, hb1, hd10, he10⟩ := ih.R4 h1 he1 (by omega) hp (by omega) (by omega) hV hT hpx (fun e => absurd e (by omega))
      refine mbunary_91 ?_
      exact lp S p x1 c1 (x1 + 1) S1 σ _ hs hT1 hpx1 (hR1.pre hpc hV (by omega)) h
    · have h0 : t ≠ 0 := fun u => q (by rw [u]; decide)
      obtain ⟨g1, g2⟩ := kk_una_ok (T := T) (n := n) (c := c) (by rw [ht]; exact h0)
      obtain ⟨t1, s1⟩ := lx_tk g1
      rw [if_neg h0] at h
      obtain ⟨r1, h1, hx1, h⟩ := pr_b_some h
      refine mbunary_65 (ps_take hs hT (Nat.le_refl 3)) (by show _ ≤ D; omega) (Nat.zero_le _) (ml_kr0 fun σ hs => ?_) ml_no
      refine mbunary_69 (ps_nest hs hd (Nat.le_refl 5)) (by show _ ≤ D; omega) (Nat.le_refl 1) (ml_krv fun σ ⟨hd1, hs⟩ => ?_) (ih.nx h1 (m := 11) (by omega) hx1 hpx)
      refine mbunary_78 (ih.1 11 (d + 1) _ S σ r1 (20 * (41 - (d + 1)) + 40 - 11) (by decide) hs hT ⟨_, hp, by omega, by omega, hV⟩ (by omega) h1 (Nat.le_refl _)) (by show _ ≤ D; omega) (Nat.le_refl 1) (pq_kr fun x1 c1 σ he1 hs => ?_) (pq_kx hx1 hpx)
      generalize lx_nz σ = S1 at he1 hs
      have h := h _ _ _ he1
      obtain ⟨hR1, hp1, hV1, hT1, hpx1, ha1, hb1, hd10, he10⟩ := ih.R4 h1 he1 (by omega) hp (by omega) (by omega) hV hT hpx (fun e => absurd e (by omega))
      have hch : md_ch (S1.2 35) (pm_first [x1]) [x1] := by
        refine ⟨rfl, ?_⟩
        rw [hR1.2.2.2.2.1]
        show (-1 : Int32) < 0
        decide
      refine mbunary_81 (ps_make hs hp1 (by omega) hV1 rfl hch (fun k hk => by simp only [List.mem_cons, List.not_mem_nil, or_false] at hk; omega) h (Nat.le_refl 5)) (by show _ ≤ D; omega) (Nat.le_refl 1) (ml_kr fun v σ g => ?_) (pq_kx (fun _ e => e) hpx1)
      obtain ⟨e, c9, g1, rfl, g2⟩ := g
      exact mbunary_85 (fun G _ => ⟨e, c9, g1, rfl, g2⟩)
  refine mbunary_0 (ps_peek hs hT (Nat.le_refl 2)) (by show _ ≤ D; omega) (Nat.zero_le _) (ml_krv fun σ ⟨hs, hS⟩ => ?_) ml_no
  refine mbunary_4 (fun q1 => ?_) (fun q => mbunary_9 (go _ _ _ hs (by rw [kk_una, if_pos q])))
  refine mbunary_14 (ps_is hs hT hw (tx := "not") (by simp [lx_words]) (Nat.le_refl 4)) (by show _ ≤ D; omega) (Nat.zero_le _) (ml_krv fun σ ⟨hs, hS⟩ => ?_) ml_no
  refine mbunary_21 (fun q2 => ?_) (fun q => mbunary_24 (go _ _ _ hs (by rw [kk_una, if_neg q1, if_pos (lx_b1 q)])))
  refine mbunary_29 (ps_is hs hT hw (tx := "pre") (by simp [lx_words]) (Nat.le_refl 4)) (by show _ ≤ D; omega) (Nat.zero_le _) (ml_krv fun σ ⟨hs, hS⟩ => ?_) ml_no
  refine mbunary_36 (fun q3 => ?_) (fun q => mbunary_39 (go _ _ _ hs (by rw [kk_una, if_neg q1, if_neg (lx_b0.1 q2), if_pos (lx_b1 q)])))
  refine mbunary_44 (ps_is hs hT hw (tx := "current") (by simp [lx_words]) (Nat.le_refl 4)) (by show _ ≤ D; omega) (Nat.zero_le _) (ml_krv fun σ ⟨hs, hS⟩ => ?_) ml_no
  refine mbunary_51 (fun q4 => ?_) (fun q => mbunary_54 (go _ _ _ hs (by rw [kk_una, if_neg q1, if_neg (lx_b0.1 q2), if_neg (lx_b0.1 q3), if_pos (lx_b1 q)])))
  exact mbunary_59 (go _ _ _ hs (by rw [kk_una, if_neg q1, if_neg (lx_b0.1 q2), if_neg (lx_b0.1 q3), if_neg (lx_b0.1 q4)]))
theorem X6_when_L {D d a c p lo : Nat} {S0 S σ : MS} {r : PE} (hw : ml_ws z) (hD : 20 ≤ D) (lp : ∀ a c p S σ E, ps n c S σ → S.2 0 = T → md_px S0 S → pp_pre n 12 a [] lo p c S → rec 12 d a [] c S = some r → ml_V z mX6_unary (D, 1, (fun v σ' _ => pq_N n r v σ'), pq_X S0 r) 92 [(0, vR (some z.2.1)), (3, vI (nI a))] [] σ E 1)
    (hs : ps n c S σ) (hT : S.2 0 = T) (hpx : md_px S0 S) (hpre : pp_pre n 12 a [] lo p c S) (h : pp_wh T n rec d a c S = some r) (E : GH → Prop) : ml_V z mX6_unary (D, 1, (fun v σ' _ => pq_N n r v σ'), pq_X S0 r) 92 [(0, vR (some z.2.1)), (3, vI (nI a))] [] σ E 1 := by
  have hR0 := hpre.R (by omega)
  have hV := hpre.2.2.2.1
  have hpc := hpre.2.1
  have hcn := hpre.2.2.1
  have hn := hV.1
  have hpa : a + 1 = p := by have h5 := hpre.2.2.2.2; rw [if_pos (by omega)] at h5; exact h5.1
  have hp : S.1 40 = nI (a + 1) := by rw [hpa]; exact hpre.1
  obtain ⟨v1, v2, v3, v4, v5, v6, v7, v8, v9⟩ := hV.N
  have go : ∀ E σ c1 (x4 : Int32) s, ps n c1 S σ → c + 1 ≤ c1 → s < 2 → (x4 = 0 → s = 1) → (¬ x4 = 0 → s = 0) → pr_wh T n s c1 S (fun w => pr_b (pr_make S 26 w [a] (lx_next T n c1)) fun x c2 S2 => rec 12 d x [] c2 S2) = some r →
      ml_V z mX6_unary (D, 1, (fun v σ' _ => pq_N n r v σ'), pq_X S0 r) 124 [(0, vR (some z.2.1)), (3, vI (nI a)), (4, vI x4)] [] σ E 1 := by
    intro E σ c1 x4 s hs hc1 hs2 hz0 hz1 h
    have hok : ∀ q : Nat × Nat × MS, r = .inr q → ∃ w, pr_b (pr_make S 26 w [a] (lx_next T n c1)) (fun x c2 S2 => rec 12 d x [] c2 S2) = some (.inr q) ∧ lx_name T n c1 ∧ pw_s S 26 w 1 := fun q e => pr_wh_ok hs2 hV (by rw [h, e])
    refine mbunary_124 (ps_name hs hT hw (Nat.le_refl 6)) (by show _ ≤ D; omega) (Nat.zero_le _) (ml_krv fun σ ⟨hs, hS⟩ => ?_) ml_no
    refine mbunary_128 (fun q => ?_) (fun q => ?_)
    · have qn := lx_b1 q
      unfold pr_wh at h
      rw [if_neg (by exact fun u => u qn)] at h
      have hle := pr_fv_le (c := c1) hV
      refine mbunary_136 (ps_var hs hS hV (Nat.le_refl 1)) (by show _ ≤ D; omega) (Nat.zero_le _) (ml_krv fun σ ⟨hs, hS⟩ => ?_) ml_no
      have thr : ∀ E, pr_er 2 c1 = some r → ml_V z mX6_unary (D, 1, (fun v σ' _ => pq_N n r v σ'), pq_X S0 r) 161 [(0, vR (some z.2.1))] [] σ E 1 := by
        intro E h
        refine mbunary_161 (Nat.le_refl 1) (fun q => ?_)
        refine mbunary_164 rfl (X23_init_C (Nat.le_refl 4)) (fun G g => g) (by show _ ≤ D; omega) (Nat.zero_le _) ?_
        exact mbunary_173 rfl (fun G g => g.1) (fun G g => pq_X.er h hpx g.2.1 (by rw [g.2.2, hS.2.2.2.1]) hs.2)
      refine mbunary_144 (fun q => ?_) (fun q => ?_)
      · have qv := (lx_m1 (p := pr_fv n S c1 < pr_v S) (k := pr_fv n S c1) (by have := (lx_find_spec (P := lx_vs S n c1) (b := pr_v S) (pr_v S) (pr_a S) (by omega) v6).2.1; unfold pr_fv; omega)).1 q
        rw [if_pos (Or.inl qv)] at h
        exact thr _ h
      · have qv : pr_fv n S c1 < pr_v S := Decidable.byContradiction fun u => q (by rw [if_neg u]; decide)
        rw [if_pos qv]
        have hcl : (nI (pr_fv n S c1)).toNatClampNeg = pr_fv n S c1 := nI_clamp (by omega)
        refine mbunary_151 (vp_in_nI (by omega) (by decide)) (fun q => ?_) (fun q => ?_)
        · rw [hcl, hs.s2] at q
          rw [if_neg (by rintro (u | u); exact u qv; exact q u)] at h
          refine mbunary_174 (ps_shallow hs hS hV hle qv (Nat.le_refl 5)) (by show _ ≤ D; omega) (Nat.le_refl 1) (ml_kr0 fun σ ⟨qd, hs, hS⟩ => ?_) (fun kd pl σ' ⟨g1, g2, g3, g4⟩ => by rw [if_pos g1] at h; exact pq_X.er h hpx g2 g3 g4)
          rw [if_neg (by exact fun u => u qd)] at h
          obtain ⟨t1, s1⟩ := lx_tkn qn
          refine mbunary_180 (ps_take hs hT (Nat.le_refl 3)) (by show _ ≤ D; omega) (Nat.zero_le _) (ml_kr0 fun σ hs => ?_) ml_no
          have e18 : σ.1 18 = nI (pr_N S) := by rw [hs.s1 18 (by omega)]; exact v1
          have ew : (2 : Int32) * (nI (pr_fv n S c1) - σ.2 12 (σ.1 18).toNatClampNeg) = nI (2 * (pr_fv n S c1 - pr_a S)) := by
            rw [e18, nI_clamp (by omega), hs.s2, v5, pk_sub hle]
            exact pk_mul 2 _
          obtain ⟨r1, h1, hx1, h⟩ := pr_b_some h
          have fin : ∀ E (s3 : Int32), nI (2 * (pr_fv n S c1 - pr_a S)) + s3 = nI (2 * (pr_fv n S c1 - pr_a S) + s) → ml_V z mX6_unary (D, 1, (fun v σ' _ => pq_N n r v σ'), pq_X S0 r) 211 [(0, vR (some z.2.1)), (3, vI (nI a))] [vI s3, vI (nI (2 * (pr_fv n S c1 - pr_a S))), vI 26, vR (some z.2.1)] σ E 1 := by
            intro E s3 e3
            have hch : md_ch (S.2 35) (pm_first [a]) [a] := by
              refine ⟨rfl, ?_⟩
              rw [hR0.2.2.2.2.1]
              show (-1 : Int32) < 0
              decide
            refine mbunary_211 (P := fun v σ' _ => pq_N n r1 v σ') (PX := pq_X S r1) (d' := 5) (b' := 1) (by rw [e3]; exact ps_make hs hp (by omega) hV rfl hch (fun k hk => by simp only [List.mem_cons, List.not_mem_nil, or_false] at hk; omega) h1 (Nat.le_refl 5)) (by show _ ≤ D; omega) (Nat.le_refl 1) (pq_kr fun x1 c2 σ he1 hs => ?_) (pq_kx hx1 hpx)
            generalize lx_nz σ = S1 at he1 hs
            have h := h _ _ _ he1
            obtain ⟨w, hw1, -, hw3⟩ : ∃ w, w = nI (2 * (pr_fv n S c1 - pr_a S) + s) ∧ True ∧ pw_s S 26 w 1 := ⟨_, rfl, trivial, Or.inr (Or.inr (Or.inr (Or.inr (Or.inr (Or.inr (Or.inr ⟨rfl, rfl, pr_fv n S c1 - pr_a S, s, hs2, by omega, by rw [show pr_a S + (pr_fv n S c1 - pr_a S) = pr_fv n S c1 by omega]; exact q, rfl⟩))))))⟩
            rw [← hw1, he1] at h1
            obtain ⟨hR1, -⟩ := pp_one (Inv := fun _ => True) pc_cl_T hn hpc hR0 (c2 := lx_next T n c1) (by omega) s1 (by omega) hV (by decide) hw3 h1 id
            dsimp only at hR1
            refine mbunary_217 ?_
            exact lp x1 c2 (x1 + 1) S1 σ _ hs (by rw [hR1.1.2 0 (by omega) (by omega) (by omega)]; exact hT) (hpx.tr hR1.1.px) (hR1.pre hpc hV (by omega)) h
          refine mbunary_184 (by rw [e18]; exact vp_in_nI (by omega) (by decide)) (fun q4 => ?_) (fun q4 => ?_)
          · rw [ew]
            exact mbunary_210 (fin _ _ (by rw [hz0 q4]; exact nI_1 _))
          · rw [ew]
            exact mbunary_206 (fin _ _ (by rw [hz1 q4]; exact nI_add _ 0))
        · rw [hcl, hs.s2] at q
          rw [if_pos (Or.inr q)] at h
          exact thr _ h
    · have qn := lx_b0.1 q
      unfold pr_wh at h
      rw [if_pos qn] at h
      refine mbunary_131 (X6_cant_C hs.1 (Nat.le_refl 5)) (by show _ ≤ D; omega) (Nat.le_refl 1) (fun v σ'' G g1 g2 g3 => ?_) ml_no
      obtain ⟨⟨g4, g5⟩, q1, rfl, g6, g7, g8⟩ := g3
      refine (mbunary_135 (E := fun G => hp_kd G q1 = 4 ∧ hp_i G q1 6 = 1 ∧ hp_i G q1 7 = nI c1) rfl (fun G g => g.1) (fun G g => ?_)) G g1 g2 ⟨g6, g7, g8⟩
      exact pq_X.er h hpx g.2.1 g.2.2 (g4.trans hs.2)
  unfold pp_wh at h
  refine mbunary_92 (ps_is hs hT hw (tx := "when") (by simp [lx_words]) (Nat.le_refl 4)) (by show _ ≤ D; omega) (Nat.zero_le _) (ml_krv fun σ ⟨hs, hS⟩ => ?_) ml_no
  refine mbunary_99 (fun q => ?_) (fun q => ?_)
  · rw [if_pos (lx_b0.1 q)] at h
    exact mbunary_221 (fun G _ => pq_ret h hs)
  · have qw := lx_b1 q
    rw [if_neg (by exact fun u => u qw)] at h
    obtain ⟨t1, s1⟩ := lx_tkw qw
    refine mbunary_102 (ps_take hs hT (Nat.le_refl 3)) (by show _ ≤ D; omega) (Nat.zero_le _) (ml_kr0 fun σ hs => ?_) ml_no
    refine mbunary_106 (ps_is hs hT hw (tx := "not") (by simp [lx_words]) (Nat.le_refl 4)) (by show _ ≤ D; omega) (Nat.zero_le _) (ml_krv fun σ ⟨hs, hS⟩ => ?_) ml_no
    refine mbunary_113 (fun q => ?_) (fun q => ?_)
    · rw [if_neg (lx_b0.1 q)] at h
      exact go _ _ _ _ 1 hs t1 (by omega) (fun _ => rfl) (fun u => absurd q u) h
    · have q2 := lx_b1 q
      rw [if_pos q2] at h
      obtain ⟨t2, s2⟩ := lx_tkw q2
      refine mbunary_120 (ps_take hs hT (Nat.le_refl 3)) (by show _ ≤ D; omega) (Nat.zero_le _) (ml_kr0 fun σ hs => ?_) ml_no
      exact go _ _ _ _ 0 hs (by omega) (by omega) (fun u => absurd u q) (fun _ => rfl) h
end
