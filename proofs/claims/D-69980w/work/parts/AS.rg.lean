/-! read's loops for a job with any end; printed by tools/gen_rg.py -/
set_option maxRecDepth 100000
section
variable {z : MZ} {T : Nat → Int32} {n : Nat}
def rg_X (z : MZ) (jm : MG) (PX : Int32 → Int32 → MS → Prop) : Prop := ∀ kd pl σ, PX kd pl σ → ∀ G', ml_W z (ml_sf (ml_sf σ 3 kd) 4 pl) G' → hp_fr (ml_own z) z.2.2.2 G' → wk_V z.1 mX6_read (mg_j z jm) 292 [(0, vR (some z.2.1))] [] G' (jm.2.1 - 1)
theorem rg_X.kx {jm : MG} {PX PX' : Int32 → Int32 → MS → Prop} {pc : Nat} (h : rg_X z jm PX) (hpc : 102 ≤ pc ∧ pc < 272) (hx : ∀ kd pl σ, PX' kd pl σ → PX kd pl σ) : ∀ E9 q9 G9, ml_X z PX' E9 q9 G9 → wk_T z.1 mX6_read (mg_j z jm) pc [(0, vR (some z.2.1))] G9 (jm.2.1 - 1) E9 q9 := fun E9 q9 G9 h9 =>
  read_catch hpc h9 (fun kd pl σ hP G' h1 h2 _ => h kd pl σ (hx _ _ _ hP) G' h1 h2)
theorem rg_nodes {jm : MG} {S0 : MS} {R r : PE} {f0 : Nat} (hw : ml_ws z) (hd : 960 ≤ jm.1) (hb : 1 ≤ jm.2.1) (hx : ∀ k, r = .inl k → R = .inl k) (hX : rg_X z jm (pq_X S0 R)) (K : ∀ c' S' σ E, r = .inr (0, c', S') → ps n c' S' σ → mg_V z mX6_read jm 113 [(0, vR (some z.2.1))] [] σ E jm.2.1) : ∀ f c S σ E, nds T n f0 f c S = some r → ps n c S σ → S.2 0 = T → nd_I n c S → md_px S0 S → mg_V z mX6_read jm 102 [(0, vR (some z.2.1))] [] σ E jm.2.1 := by
  intro f
  induction f with
  | zero => intro c S σ E h; cases h
  | succ f ih =>
    intro c S σ E h hs hT hI hpx
    unfold nds at h
    obtain ⟨r1, h1, hx1, h⟩ := pr_b_some h
    refine mgread_102 (X6_node_W hw hs hT hI h1 (Nat.le_refl 950)) (by omega) hb (mg_pq0 fun c1 σ he1 hs => ?_) (hX.kx (by decide) (pq_kx (fun k e => hx k (hx1 k e)) hpx))
    have h := h _ _ _ he1
    rw [he1] at h1
    obtain ⟨a1, a2, a3, a4, a5⟩ := nd_ok h1 hI hT
    have hT1 := (a4.2 0 (Or.inl rfl)).trans hT
    refine mgread_106 (ps_peek hs hT1 (Nat.le_refl 2)) (by omega) (Nat.zero_le _) (mg_krv fun σ ⟨hs, hS⟩ => ?_) (fun E q G ⟨_, _, _, _, _, u⟩ => u.elim)
    refine mgread_110 (fun q => ?_) (fun q => ?_)
    · rw [if_neg q] at h
      exact ih _ _ _ _ h hs hT1 a2 (hpx.tr a4)
    · rw [if_pos q] at h
      exact K _ _ _ _ (Option.some.inj h).symm hs
theorem rg_around {jm : MG} {A Q P L : Nat → Nat} (hd : 20 ≤ jm.1) : ∀ m f σ E, nfs T n σ A Q P L → pr_N σ ≤ 60 → σ.1 18 = nI (pr_N σ) → f + m = pr_N σ → (∀ E, mg_V z mX6_read jm 139 [(0, vR (some z.2.1))] [] (acs A Q m f σ) E jm.2.1) → mg_V z mX6_read jm 115 [(0, vR (some z.2.1)), (1, vI (nI f))] [] σ E jm.2.1 := by
  intro m
  induction m with
  | zero =>
    intro f σ E hF hN h18 hf K
    refine mgread_115 (fun _ => K _) (fun q => absurd ?_ q)
    rw [h18]
    exact nI_le (by omega) (by omega)
  | succ m ih =>
    intro f σ E hF hN h18 hf K
    obtain ⟨i, o, hn⟩ := hF.2.1 f (by omega)
    obtain ⟨⟨a1, a2, a3, a4, a5, a6⟩, ⟨b1, b2, b3, b4, b5, b6, b7, b8, b9, b10, b11, b12, b13, b14⟩, -⟩ := id hn
    refine mgread_115 (fun q => ?_) (fun _ => ?_)
    · rw [h18] at q
      exact absurd ((nI_leI (by omega) (by omega)).1 q) (by omega)
    · refine mgread_123 (X6_around_C (d := 10) b7 a1 a5 a6 (by omega) b10 (nf_arH hn)) (by omega) (Nat.zero_le _) (mg_kr0 fun σ1 g => ?_) (fun E q G ⟨_, _, _, _, _, u⟩ => u.elim)
      have hs : ar_same σ σ1 := by
        rw [g]
        exact (ar_all_val hn (Q (f + 1) - Q f) (Q f) σ (by omega) (Nat.le_refl _) ar_same.rf (fun x a b => by omega)).2.1
      have hn1 := hn.ac hs.ac b7
      refine mgread_128 (X6_countParts_C (d := 10) (by omega) b7 (by rw [hs.2 15 (by omega)]; exact a5) (by rw [hs.2 15 (by omega)]; exact a6) (by omega) b10 (nf_cpH hn1)) (by omega) (Nat.zero_le _) (mg_kr0 fun σ2 g2 => ?_) (fun E q G ⟨_, _, _, _, _, u⟩ => u.elim)
      have e2 : σ2 = ac_f A Q f σ := by rw [g2, g]; rfl
      subst e2
      have hs2 := ac_f_same (A := A) (Q := Q) (f := f) (by rw [← g]; exact hs)
      have eN : pr_N (ac_f A Q f σ) = pr_N σ := by rw [pr_N, pr_N, hs2.1]
      refine mgread_133 ?_
      rw [nI_1]
      exact ih (f + 1) _ _ (hF.ac hs2 hN) (by rw [eN]; exact hN) (by rw [eN, hs2.1]; exact h18) (by rw [eN]; omega) K
end
section
variable {z : MZ} {T : Nat → Int32} {n : Nat} {S : MS} {A Q P L B M C : Nat → Nat} {I : Nat}
theorem rg_causes {jm : MG} (h : rw_K T n S A Q P L) (hI : rw_I S I B M C) (h51 : S.1 51 = nI (B I)) (hb : ce S (B I) ≤ 40000) (hd : 10 ≤ jm.1) (K : ∀ σ E, cg_I S σ (B I) → mg_V z mX6_read jm 245 [(0, vR (some z.2.1))] [] σ E jm.2.1) : ∀ m v σ E, v + m = B I → cg_I S σ v → mg_V z mX6_read jm 226 [(0, vR (some z.2.1)), (1, vI (nI v))] [] σ E jm.2.1 := by
  have hB6 : B I ≤ 6000 := hI.1.2.2.2.1
  intro m
  induction m with
  | zero =>
    intro v σ E hv hg
    have ev : v = B I := by omega
    subst ev
    refine mgread_226 (fun _ => K _ _ hg) (fun q => absurd ?_ q)
    rw [hg.2.1 51 (by omega), h51]
    exact nI_le (Nat.le_refl _) (by omega)
  | succ m ih =>
    intro v σ E hv hg
    refine mgread_226 (fun q => ?_) (fun _ => ?_)
    · rw [hg.2.1 51 (by omega), h51] at q
      exact absurd ((nI_leI (by omega) (by omega)).1 q) (by omega)
    · have hc := ce_mono (S := S) (B I - v) v
      rw [show v + (B I - v) = B I by omega] at hc
      have hc1 := ce_mono (S := S) (B I - (v + 1)) (v + 1)
      rw [show v + 1 + (B I - (v + 1)) = B I by omega] at hc1
      refine mgread_234 (rw_causes_C (d := 5) h hI (by omega) hg.1 (by rw [hg.2.2.1]; exact nI_pos (by omega)) (by omega)) (by omega) (Nat.zero_le _) (mg_kr0 fun σ1 g => ?_) (fun E q G ⟨_, _, _, _, _, u⟩ => u.elim)
      subst g
      refine mgread_239 ?_
      rw [nI_1]
      exact ih (v + 1) _ _ (by omega) (cg_step hg (by omega))
end
