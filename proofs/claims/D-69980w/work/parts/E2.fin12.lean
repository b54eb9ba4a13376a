/-! THE COMPONENT's PARSER: finish up to the checks -/
set_option maxRecDepth 100000
section
variable {R : GH → Prop} {q : PZ} {S : MS} {X : Nat → Nat} {G G00 : GH} {c k0 Lv hv cv Le ce : Nat} {Q Lf : Nat → Nat} {D B cs ss : Nat} {P : Option WV → GH → Prop} {r : PE} {I : Nat → Int32}
theorem X3_fin_12 (hRc : ∀ G y e, hp_kd G y = 6 → R G → R (hp_sR G y 5 e)) {T : Nat → Int32} {n rr : Nat} (hm : ∀ x, k0 ≤ x → x < pr_k S → Lf x < Lf (x + 1)) (h26 : ∀ k, k0 ≤ k → k < pr_k S → jg_n (S.2 26 k) = Lf k ∧ jg_n (S.2 26 (k + 1)) = Lf (k + 1) ∧ pl_ok S (Lf k) (Lf (k + 1))) (hpl : pl_ok S (Lf k0) (Lf (pr_k S))) (hl : Lf k0 ≤ Lf (pr_k S)) (hb : Lf (pr_k S) ≤ 5000) (hk0 : k0 ≤ pr_k S) (hkb : pr_k S ≤ 5000) (hv2 : pr_v S ≤ 6000) (hai : pr_a S + pr_i S ≤ pr_v S) (hD : 4 ≤ D) (hc : ∀ v, pr_a S ≤ v → v < pr_v S → S.2 23 v = nI (gc (S.2 28) (pr_a S) v (Lf k0) (Lf (pr_k S) - Lf k0))) (hI7 : I 7 = nI (pr_i S)) (h : nd_en T n k0 c S = some r) (hf : fnI R q Q k0 Lf (Lf k0) S X G00 G Lv hv cv Le ce I)
    (K : ∀ G', nd_gv S (pr_v S - (pr_a S + pr_i S)) (pr_a S + pr_i S) = true → fnI R q Q k0 Lf (Lf (pr_k S)) S X G00 G' Lv hv cv Le ce I → wk_V q.1.1 mX3_finish (D, B, P, xq_X q G00 r, cs, ss) 154 [(0, vR (some q.1.2.1))] [] G' rr) :
    wk_V q.1.1 mX3_finish (D, B, P, xq_X q G00 r, cs, ss) 0 [(0, vR (some q.1.2.1)), (1, vI (nI c))] [] G rr := by
  have hbad : ¬ nd_gv S (pr_v S - (pr_a S + pr_i S)) (pr_a S + pr_i S) = true → r = .inl (2, c) := fun u => by
    unfold nd_en at h
    rw [if_neg u] at h
    exact (Option.some.inj h).symm
  refine blX3_finish_0 ?_
  have h1 := X3_fin_1 (rr := rr) (D := D) (B := B) (cs := cs) (ss := ss) (P := P) (r := r) (c := c) hRc hm h26 hb hkb hv2 hD (fun hd => hbad (fun g => gv_dup hpl hv2 hl hb hc g hd)) (fun G' h' => by
    obtain ⟨⟨⟨a0, a1⟩, a2⟩, ⟨b1, b2, b3⟩, -⟩ := id h'
    refine blX3_finish_99 a2.1.1 b3 b1 ?_
    rw [show hp_i G' (qn q) 7 = nI (pr_i S) by rw [a1]; exact hI7]
    refine X3_fin_2 (ni := pr_i S) hk0 (by omega) hv2 hD (fun hd => hbad (fun g => gv_mis hpl hv2 hl hb hc g hd)) (fun G2 h2 hd => K G2 (gv_ok hpl hv2 hl hb hc (fun hdup => ?_) hd) h2) (pr_v S - (pr_a S + pr_i S)) (pr_i S) G' (Nat.le_refl _) (by omega) (fun v w1 w2 => by omega) h'
    obtain ⟨-, -, -, -, -, F, -, -, -, hF3⟩ := h2
    obtain ⟨j, j', w1, w2, w3, w4⟩ := hdup
    exact hF3 j j' w1 w2 w3 w4) (pr_k S - k0) k0 G (Nat.le_refl _) (by omega) hf
  rw [Nat.sub_self] at h1
  exact h1
end
