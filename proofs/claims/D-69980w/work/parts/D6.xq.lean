/-! THE COMPONENT's PARSER: what its methods owe; expression, implied, compared -/
set_option maxRecDepth 100000
def xq_M : Nat → MI := fun m => match m with
  | 0 => mX3_expression
  | 1 => mX3_implied
  | 2 => mX3_either
  | 4 => mX3_both
  | 6 => mX3_compared
  | 7 => mX3_sum
  | 9 => mX3_product
  | 11 => mX3_unary
  | _ => mX3_atom
/-- a parse's end: as r says -/
def xq_N (q : PZ) (lo c : Nat) (S : MS) (X : Nat → Nat) (G : GH) (r : PE) (v : Option WV) (G' : GH) : Prop := ∃ e c' S' X', r = .inr (e, c', S') ∧ v = some (vR (some (X' e))) ∧ pst q lo c' S' X' G' ∧ pin q S X G S' X' G' ∧ cb (20 * (c' - c)) G G'
def xq_X (q : PZ) (G : GH) (r : PE) (E : String) (a : Nat) (G' : GH) : Prop := ∃ k c', r = .inl (k, c') ∧ er q.1 no9 G k c' E a G'
def xq_pre (q : PZ) (lo c : Nat) (S : MS) (X : Nat → Nat) (G : GH) : Prop := pst q lo c S X G ∧ pq_pre (rz_n q.1) c S ∧ lo ≤ pr_p S ∧ ∀ e, pr_p S ≤ e → qM q e = none
/-- how many values are wanted of a call -/
def cm (G : GH) (t : Nat) (mv : Option (Nat × Nat)) : Prop := (mv = none ∧ hp_i G t 6 = 1 ∧ hp_r G t 7 = none) ∨ ∃ k m, mv = some (k, m) ∧ hp_i G t 6 = nI m ∧ hp_r G t 7 = some k
/-- what the arguments' end is -/
def xq_A (q : PZ) (lo c : Nat) (S0 : MS) (X0 : Nat → Nat) (G0 G : GH) (t : Nat) (mv : Option (Nat × Nat)) (r : PE) (v : Option WV) (G' : GH) : Prop := v = none ∧ ∃ e c' S' X', r = .inr (e, c', S') ∧ X' e = t ∧ pst (qU q e mv) lo c' S' X' G' ∧ pin q S0 X0 G0 S' X' G' ∧ cb (20 * (c' - c)) G G'
def xq_IH (q : PZ) (rec : PF) : Prop :=
  (∀ m d c lo S X G r D, m ∈ [0, 1, 2, 4, 6, 7, 9, 11, 13] → xq_pre q lo c S X G → (d ≤ 40 ∨ (d = 41 ∧ (m = 0 ∨ m = 1 ∨ m = 11))) → rec m d 0 [] c S = some r → 20 * (42 - d) + 60 - m ≤ D → wk_C q.1.1 (xq_M m) D (20 * (rz_n q.1 - c) + 20) [vR (some q.1.2.1), vI (nI d)] G (xq_N q lo c S X G r) (xq_X q G r)) ∧
  (∀ k d c lo S X G r D t L S0 X0 G0 mv, k < pr_N S → xq_pre q lo c S X G → pin q S0 X0 G0 S X G → pd q lo S G0 G X t 21 [] 0 L → hp_r G t 5 = some (qN q k) → cm G t mv → d ≤ 40 → rec 14 d k [] c S = some r → 20 * (42 - d) + 45 ≤ D → wk_C q.1.1 mX3_arguments D (20 * (rz_n q.1 - c) + 20) [vR (some q.1.2.1), vR (some t), vI (nI d)] G (xq_A q lo c S0 X0 G0 G t mv r) (xq_X q G0 r)) ∧
  pp_IH (rz_n q.1) (fun _ => True) rec
theorem xq_X.up {q : PZ} {S S0 : MS} {X X0 : Nat → Nat} {G G0 G' : GH} {r r1 : PE} {E : String} {a : Nat} (h : xq_X q G r1 E a G') (h0 : pin q S0 X0 G0 S X G) (hx : ∀ k, r1 = .inl k → r = .inl k) : xq_X q G0 r E a G' := by
  obtain ⟨k, c', e, h2⟩ := h
  exact ⟨k, c', hx _ e, h2.of h0.2.2.2.2.1 (fun j hj => h0.2.2.2.2.2 j (by omega)) (fun _ _ u => u)⟩
theorem er.X {q : PZ} {S S0 : MS} {X X0 : Nat → Nat} {G G0 G' : GH} {r : PE} {E : String} {a c : Nat} {k : Int32} (h : er q.1 no9 G k c E a G') (h0 : pin q S0 X0 G0 S X G) (hr : pr_er k c = some r) : xq_X q G0 r E a G' :=
  ⟨k, c, (Option.some.inj hr).symm, h.of h0.2.2.2.2.1 (fun j hj => h0.2.2.2.2.2 j (by omega)) (fun _ _ u => u)⟩
/-- an object is new -/
theorem nw_x {q : PZ} {lo c : Nat} {S : MS} {X : Nat → Nat} {G : GH} {t k : Nat} (h : pst q lo c S X G) (ht : hp_kd G t = 0) : hp_kd (hp_nw G t k 0) t = k ∧ hp_kd (hp_nw G t k 0) q.1.2.1 = 12 ∧ hp_r (hp_nw G t k 0) q.1.2.1 0 = some q.1.2.2.2.1 ∧ kE q.1.1 (hp_nw G t k 0) := by
  have k1 := h.1.1.1.1
  have nRt : q.1.2.1 ≠ t := fun u => by rw [← u, k1] at ht; cases ht
  exact ⟨by rw [hp_kd_nw, if_pos rfl], by rw [hp_kd_nw, if_neg nRt]; exact k1, by rw [hp_r_nw, if_neg nRt]; exact h.1.1.1.2.2.1, h.2.1.1.2.1.fr ((cf.rf (own := fun _ => False)).nw ht)⟩
section
variable {q : PZ} {rec : PF}
/-- one deeper -/
theorem xq_IH.nx (ih : xq_IH q rec) (m d c lo : Nat) (S : MS) (X : Nat → Nat) (G : GH) (r : PE) (D : Nat) (hm : m ∈ [0, 1, 2, 4, 6, 7, 9, 11, 13]) (h : xq_pre q lo c S X G) (hd : d + 1 ≤ 40 ∨ (d + 1 = 41 ∧ (m = 0 ∨ m = 1 ∨ m = 11))) (hr : rec m (d + 1) 0 [] c S = some r) (hD : 20 * (42 - (d + 1)) + 60 - m ≤ D) : wk_C q.1.1 (xq_M m) D (20 * (rz_n q.1 - c) + 20) [vR (some q.1.2.1), vI (nI d + 1)] G (xq_N q lo c S X G r) (xq_X q G r) := by
  rw [nI_1]
  exact ih.1 m (d + 1) c lo S X G r D hm h hd hr hD
/-- what a part's parse leaves, as the walks use it -/
theorem xq_R {m d a c lo : Nat} {l : List Nat} {S S1 : MS} {X X1 : Nat → Nat} {G G1 : GH} {r1 : PE} {e c1 : Nat} (ih : pp_IH (rz_n q.1) (fun _ => True) rec) (h : rec m d a l c S = some r1) (he : r1 = .inr (e, c1, S1)) (hm : ¬ (m = 3 ∨ m = 5 ∨ m = 8 ∨ m = 10 ∨ m = 12) ∧ m ≠ 15) (hpre : xq_pre q lo c S X G) (h1 : pst q lo c1 S1 X1 G1) (ha : m = 14 → a < pr_N S) :
    xq_pre q lo c1 S1 X1 G1 ∧ pe_R (rz_n q.1) S (pr_p S) (pr_p S) c e c1 S1 ∧ S1.1 40 = nI (e + 1) ∧ pr_p S1 = e + 1 ∧ pr_p S ≤ e ∧ c ≤ c1 ∧ c1 ≤ rz_n q.1 ∧ e + 1 + c ≤ pr_p S + c1 ∧ pr_p S ≤ c ∧ c ≤ rz_n q.1 ∧ rz_n q.1 ≤ 5000 := by
  subst he
  obtain ⟨g1, ⟨p, g2, g3, g4, g5⟩, g6, g7⟩ := hpre
  have hn := g1.1.1.2.2.2.1
  have ep : pr_p S = p := by rw [pr_p, g2, nI_clamp (by omega)]
  rw [ep] at g6 g7 ⊢
  have hR := (ih.main h hm g2 g3 g4 g5 ha).1
  obtain ⟨s1, x1, y1, z1, r1, u1, v1, w1, f1, l1, t1⟩ := id hR
  have ep1 : pr_p S1 = e + 1 := by
    have x1' : S1.1 40 = nI (e + 1) := x1
    rw [pr_p, x1', nI_clamp (by omega)]
  exact ⟨⟨h1, hR.pq g3 g5, by omega, fun j hj => g7 j (by omega)⟩, hR, x1, ep1, z1, u1, v1, w1, g3, g4, hn⟩
theorem xq_pre.tok {c c1 lo : Nat} {S : MS} {X : Nat → Nat} {G G1 : GH} (h : xq_pre q lo c S X G) (h1 : pst q lo c1 S X G1) (hc : c ≤ c1) : xq_pre q lo c1 S X G1 := by
  obtain ⟨g1, ⟨p, g2, g3, g4, g5⟩, g6, g7⟩ := h
  exact ⟨h1, ⟨p, g2, by omega, h1.1.2.1, g5⟩, g6, g7⟩
theorem xq_pre.nums {c lo : Nat} {S : MS} {X : Nat → Nat} {G : GH} (h : xq_pre q lo c S X G) : S.1 40 = nI (pr_p S) ∧ pr_p S ≤ c ∧ c ≤ rz_n q.1 ∧ rz_n q.1 ≤ 5000 ∧ pe_V (rz_n q.1) S := by
  obtain ⟨g1, ⟨p, g2, g3, g4, g5⟩, g6, g7⟩ := h
  have hn := g1.1.1.2.2.2.1
  have ep : pr_p S = p := by rw [pr_p, g2, nI_clamp (by omega)]
  rw [ep]
  exact ⟨g2, g3, g4, hn, g5⟩
theorem xq_pre.bs {c lo a : Nat} {v : Int32} {S : MS} {X : Nat → Nat} {G : GH} (h : xq_pre q lo c S X G) (hnk : ∀ e, lo ≤ e → e < pr_p S → ∀ ks, md_ch (S.2 35) (S.2 34 e) ks → (∀ k ∈ ks, k < e) → a ∉ ks) : xq_pre q lo c (ml_sa S 35 a v) X G := by
  obtain ⟨g1, ⟨p, g2, g3, g4, g5⟩, g6, g7⟩ := h
  exact ⟨g1.bs hnk, ⟨p, g2, g3, g4, g5.same ⟨fun k _ => rfl, fun k _ _ h3 => by
    funext j
    rw [ml_sa_a, if_neg (by omega)]⟩⟩, g6, g7⟩
theorem xw_0 {a e x : Nat} {G : GH} {s o : Int32} (h : s = 4 ∨ s = 24 ∨ s = 25) : xw q a G e x s o := by
  rcases h with rfl | rfl | rfl
  all_goals exact ⟨fun u => (u.elim (fun v => absurd v (by decide)) (fun v => absurd v (by decide))), fun u => absurd u (by decide), fun u => absurd u (by decide), fun u => absurd u (by decide), fun u => absurd u (by decide), fun u => by first | exact absurd u.1 (by decide) | exact absurd u.2 (by decide), fun u => absurd u (by decide)⟩
/-- two parsed parts under the operator kind -/
theorem X3_two_A {c1 c2 c3 lo a b D : Nat} {kind : Int32} {S1 S2 : MS} {X1 X2 : Nat → Nat} {G1 G2 : GH} {r : PE} (h1 : xq_pre q lo c1 S1 X1 G1) (hpa : pr_p S1 = a + 1) (hla : lo ≤ a) (h2 : xq_pre q lo c3 S2 X2 G2) (hR : pe_R (rz_n q.1) S1 (a + 1) (a + 1) c2 b c3 S2) (hp2 : pr_p S2 = b + 1) (hab : a < b) (hk : 7 ≤ kind ∧ kind ≤ 21) (hr : pr_two S2 kind a b c3 = some r) (hx : X2 a = X1 a) (hd : 8 ≤ D) :
    wk_C q.1.1 mX3_two D 3 [vR (some q.1.2.1), vI (xo kind), vR (some (X1 a)), vR (some (X2 b))] G2 (fun v G' => ∃ X' S', r = .inr (b + 1, c3, S') ∧ v = some (vR (some (X' (b + 1)))) ∧ pst q lo c3 S' X' G' ∧ pin q S2 X2 G2 S' X' G') (fun E a G' => r = .inl (3, c3) ∧ er q.1 no9 G2 3 c3 E a G') := by
  obtain ⟨n1, n2, n3, n4, n5⟩ := h2.nums
  rw [← hx]
  refine (X3_two_C (p := b + 1) h2.1 hk ⟨hla, by omega⟩ ⟨by omega, by omega⟩ (by omega) (by rw [n1, hp2]) (by omega) (nokid (p1 := a + 1) (fun p2 e => by rw [e, hp2]; exact hR.2.2.2.2.2.2.2.2.2.2) rfl (by omega)) hR.2.2.2.2.1 hr hd).mono (fun v G' h => ?_) (fun _ _ _ u => u)
  obtain ⟨t, S', e1, e2, e3, e4⟩ := h
  exact ⟨_, S', e1, by unfold hp_u1; rw [if_pos rfl]; exact e2, e3, e4⟩
end
