/-! THE COMPONENT's finish: its contract -/
set_option maxRecDepth 100000
section
variable {R : GH → Prop} {cq : Nat} {q : PZ} {S : MS} {X Q kq Pp Lf : Nat → Nat} {G G00 : GH} {k0 Lv hv cv Le ce lo Lc Lm Lr D c : Nat} {I : Nat → Int32} {nml : List Nat} {T : Nat → Int32} {n i o : Nat} {TP TC TA : Nat → Nat} {r : PE}
theorem fnI.n4 {p : Nat} (h : fnI (fnB q S X lo G00 Lc Lm Lr nml cq) q Q k0 Lf p S X G00 G Lv hv cv Le ce I) : fnI (fnB q (nd_4 S) X lo G00 Lc Lm Lr nml cq) q Q k0 Lf p (nd_4 S) X G00 G Lv hv cv Le ce I := by
  obtain ⟨h1, h2, h3, h4, h5, F, f1, f2, f3, f4⟩ := h
  refine ⟨h1, h2, h3, h4, h5, F, fun v a b => ?_, f2, f3, f4⟩
  obtain ⟨g1, g2, g3, g4, g5, bb, b1, b2⟩ := f1 v a b
  refine ⟨g1, g2, g3, g4, g5, bb, b1, ?_⟩
  rw [md_dep_22 (S := S) (S' := nd_4 S) rfl]
  exact b2
/-- what finish asks of the text -/
def fnH (q : PZ) (T : Nat → Int32) (n : Nat) (Q Pp Lf kq : Nat → Nat) (k0 lo i o : Nat) (S : MS) : Prop :=
  fcW q T n Q Pp Lf k0 lo (nd_4 S) ∧ ((∀ x, k0 ≤ x → x < pr_k S → Lf x < Lf (x + 1)) ∧ (∀ k, k0 ≤ k → k < pr_k S → jg_n (S.2 26 k) = Lf k ∧ jg_n (S.2 26 (k + 1)) = Lf (k + 1) ∧ pl_ok S (Lf k) (Lf (k + 1))) ∧ pl_ok S (Lf k0) (Lf (pr_k S)) ∧ Lf k0 ≤ Lf (pr_k S) ∧ Lf (pr_k S) ≤ 5000) ∧ (pr_v S ≤ 6000 ∧ pr_a S + pr_i S ≤ pr_v S ∧ ∀ v, pr_a S ≤ v → v < pr_v S → S.2 23 v = nI (gc (S.2 28) (pr_a S) v (Lf k0) (Lf (pr_k S) - Lf k0))) ∧
  (∀ x, lo ≤ x → x < pr_p S → S.2 32 x = 3 → jg_n (S.2 33 x) < pr_N S) ∧ ((∀ k, k0 ≤ k → k < pr_k S → ∀ x, Pp k ≤ x → x < Pp (k + 1) → kq x = k) ∧ ∀ x, lo ≤ x → x < pr_p S → k0 ≤ kq x ∧ kq x < pr_k S) ∧ (lo ≤ pr_p S ∧ pr_i S = i ∧ ∀ v, pr_a S ≤ v → v < pr_v S → qK q v = if v < pr_a S + i then 0 else if v < pr_a S + i + o then 1 else 2)
/-- its end -/
def fiP (q : PZ) (S : MS) (X Q kq : Nat → Nat) (k0 lo i o : Nat) (TP TC TA : Nat → Nat) (nml : List Nat) (cq : Nat) (G00 : GH) (v : Option WV) (G' : GH) : Prop := v = none ∧ nd_gv S (pr_v S - (pr_a S + pr_i S)) (pr_a S + pr_i S) = true ∧ ∃ S7 F, nd_jg (pr_k S - k0) k0 (nd_4 S) = .inr S7 ∧ fnE q S7 X Q F kq i o lo k0 TP TC TA nml cq G00 G' ∧ ∀ k, k0 ≤ k → k < pr_k S → fcA S7 F (pr_a S7) k
theorem X3_finish_C (hD : 640 ≤ D) (hsn : sn G00) (hH : fnH q T n Q Pp Lf kq k0 lo i o S) (hI0 : ∀ k, I k = if k = 7 then nI i else if k = 8 then nI o else 0) (hnh : ∀ f, f < pr_N S → nh q S G00 f) (hT : nT q S TP TC TA G00) (hfr : ∀ e, lo ≤ e → e < pr_p S → hp_kd G00 (X e) = 0) (hR0 : hp_kd G00 q.1.2.1 = 12) (hB0 : hp_kd G00 q.1.2.2.2.1 = 3) (hnd : [Lv, Le, Lc, Lm, Lr].Nodup) (h : nd_en T n k0 c S = some r) (hI : fnI (fnB q S X lo G00 Lc Lm Lr nml cq) q Q k0 Lf (Lf k0) S X G00 G Lv hv cv Le ce I) :
    wk_C q.1.1 mX3_finish D ((pr_p S - lo) + (4 * (pr_p S - lo) + 30)) [vR (some q.1.2.1), vI (nI c)] G (fiP q S X Q kq k0 lo i o TP TC TA nml cq G00) (xq_X q G00 r) := by
  obtain ⟨hW, ⟨h1, h2, h3, h4, h5⟩, ⟨h6, h7, h8⟩, h9, ⟨h10, h11⟩, h12, h13, h14⟩ := hH
  obtain ⟨⟨w1, w2, w3, w4, w5, w6⟩, ⟨w7, w8⟩, w9, w10⟩ := id hW
  have w6' : k0 ≤ pr_k S := w6
  have w5' : pr_k S ≤ 5000 := w5
  have kn6 : ∀ G y e, hp_kd G y = 6 → (fnB q S X lo G00 Lc Lm Lr nml cq G ∧ hp_kd G (qn q) = 8) → (fnB q S X lo G00 Lc Lm Lr nml cq (hp_sR G y 5 e) ∧ hp_kd (hp_sR G y 5 e) (qn q) = 8) := fun G y e u v => ⟨v.1.s5 v.2 u, v.2⟩
  have hI' : fnI (fun G => fnB q S X lo G00 Lc Lm Lr nml cq G ∧ hp_kd G (qn q) = 8) q Q k0 Lf (Lf k0) S X G00 G Lv hv cv Le ce I := by
    obtain ⟨⟨⟨⟨a0, a1⟩, a3⟩, a2⟩, b, rest⟩ := hI
    exact ⟨⟨⟨⟨a0, a1, b.1⟩, a3⟩, a2⟩, b, rest⟩
  refine wk_C_of (by decide) rfl (Nat.le_of_ble_eq_true rfl) ?_
  refine X3_fin_12 (T := T) (n := n) kn6 h1 h2 h3 h4 h5 w6' w5' h6 h7 (by show 4 ≤ D; omega) h8 (by rw [hI0, h13]; rfl) h hI' (fun G1 hgv hf => ?_)
  have hf1 : fnI (fnB q S X lo G00 Lc Lm Lr nml cq) q Q k0 Lf (Lf (pr_k S)) S X G00 G1 Lv hv cv Le ce I := by
    obtain ⟨⟨⟨⟨a0, a1, -⟩, a3⟩, a2⟩, b, rest⟩ := hf
    exact ⟨⟨⟨⟨a0, a1⟩, a3⟩, a2⟩, b, rest⟩
  unfold nd_en at h
  rw [if_pos hgv] at h
  refine blX3_finish_154 ?_
  have key := X3_fin_3 (D := D) (B := (pr_p S - lo) + (4 * (pr_p S - lo) + 30)) (cs := hp_cs G) (ss := hp_ss G) (Pt := fiP q S X Q kq k0 lo i o TP TC TA nml cq G00) (r := r) (A := 4 * (pr_p S - lo) + 30) (p := Lf (pr_k S)) (G00 := G00) (by omega) hR0 hB0 (pr_k S - k0) k0 (nd_4 S) G1 (fun _ => 0) hW hnh hfr (Nat.le_refl _) (by show k0 + (pr_k S - k0) = pr_k S; omega) hf1.n4 (fun j j1 j2 => by omega) (fun kd pl u => ?_) (fun S7 G2 F u hW7 hN7 hI7 hF7 => ?_)
  · rw [Nat.sub_self, w7] at key
    exact key
  · rw [u] at h
    exact (Option.some.inj h).symm
  · obtain ⟨j1, j2⟩ := nd_jg_js _ _ _ _ u
    have ek : pr_k S7 = pr_k S := by unfold pr_k; rw [j1 30 (by decide)]; rfl
    have ep : pr_p S7 = pr_p S := by unfold pr_p; rw [j1 40 (by decide)]; rfl
    have ev : pr_v S7 = pr_v S := by unfold pr_v; rw [j1 19 (by decide)]; rfl
    have eN : pr_N S7 = pr_N S := hN7.1
    have ea : pr_a S7 = pr_a S := by
      unfold pr_a
      rw [eN, j2 12 (by decide) (by decide)]
      rfl
    have e26 : S7.2 26 = S.2 26 := by rw [j2 26 (by decide) (by decide)]; rfl
    have e32 : S7.2 32 = S.2 32 := by rw [j2 32 (by decide) (by decide)]; rfl
    have e33 : S7.2 33 = S.2 33 := by rw [j2 33 (by decide) (by decide)]; rfl
    obtain ⟨⟨v1, v2, v3, v4, v5, v6⟩, ⟨v7, v8⟩, v9, v10⟩ := id hW7
    have hI7' : fnI (fnB q S7 X lo G00 Lc Lm Lr nml cq) q Q k0 Lf (Lf (pr_k S7)) S7 X G00 G2 Lv hv cv Le ce I := by rw [ek]; exact hI7
    rw [← ep]
    refine X3_fin_6 (i := i) (o := o) (TP := TP) (TC := TC) (TA := TA) (F := F) (kq := kq) (by omega) hsn hW7 hI7' hF7 hI0 (fun g hg => hT g (by rw [← eN]; exact hg)) (fun x x1 x2 x3 => by rw [eN, e33]; exact h9 x x1 (by rw [← ep]; exact x2) (by rw [← e32]; exact x3)) (fun e e1 e2 => hfr e e1 (by rw [← ep]; exact e2)) hR0 hB0 hnd (fun k k1 k2 => h10 k k1 (by rw [← ek]; exact k2)) (fun x x1 x2 => by rw [ek]; exact h11 x x1 (by rw [← ep]; exact x2)) (by rw [ep]; exact h12) (fun v x1 x2 => by rw [ea] at x1 ⊢; exact h14 v x1 (by rw [← ev]; exact x2)) (fun k k1 k2 => by rw [e26]; have := h2 k k1 (by rw [← ek]; exact k2); exact ⟨this.1, this.2.1⟩) (by rw [ea, ev]; omega) (fun k k1 k2 => ?_) (fun j z1 z2 => ?_) (fun G' hE => ⟨rfl, hgv, S7, F, u, hE, fun k k1 k2 => ?_⟩)
    · rw [ek] at k2 ⊢
      have m1 := mono_k (P := Lf) (q := k0) (q' := pr_k S) h1 (k - k0) k0 (Nat.le_refl _) (by omega)
      have m2 := mono_k (P := Lf) (q := k0) (q' := pr_k S) h1 (pr_k S - (k + 1)) (k + 1) (by omega) (by omega)
      rw [show k0 + (k - k0) = k by omega] at m1
      rw [show k + 1 + (pr_k S - (k + 1)) = pr_k S by omega] at m2
      exact ⟨m1, m2⟩
    · rw [ek] at z2
      obtain ⟨k, y1, y2, y3, y4⟩ := loc_k (P := Lf) (e := j) (pr_k S - k0) k0 z1 (by rw [show k0 + (pr_k S - k0) = pr_k S by omega]; exact z2)
      exact ⟨k, y1, by rw [ek]; omega, y3, y4⟩
    · obtain ⟨g1, g2, g3⟩ := hF7 k k1 (by rw [ek]; exact k2)
      obtain ⟨cc, hw, -, hp5, -⟩ := v9 k k1 (by rw [ek]; exact k2)
      have e27 : jg_n (S7.2 27 k) = Pp (k + 1) - 1 := by rw [hw.2.2.2.1]; exact nI_clamp (by omega)
      have e29 : jg_n (S7.2 29 k) = Pp k := by rw [hw.2.2.1]; exact nI_clamp (by have := hw.2.2.2.2.1; omega)
      have el : jg_n (S7.2 26 k) = Lf k := by rw [e26]; exact (h2 k k1 k2).1
      have hlt := hw.2.2.2.2.1
      refine ⟨by rw [e27, el]; exact g2, fun y y1 y2 x hx => ?_⟩
      rw [e29] at y1
      rw [e27] at y2
      exact g3 y y1 (by omega) x hx
end
