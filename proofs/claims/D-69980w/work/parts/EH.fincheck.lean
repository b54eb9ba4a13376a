/-! THE COMPONENT's finish: the checks -/
set_option maxRecDepth 100000
section
variable {cq : Nat} {R R' : GH → Prop} {q : PZ} {S S1 : MS} {X : Nat → Nat} {G G1 G' G00 : GH} {c k0 t L Lv hv cv Le ce lo hi : Nat} {Q : Nat → Nat} {Lf : Nat → Nat} {I : Nat → Int32} {D B cs ss : Nat} {P : Option WV → GH → Prop} {r : PE}
/-- where expressions' objects and the Wrong change -/
theorem fnI.fr {own : Nat → Prop} {p : Nat} (h : fnI R q Q k0 Lf p S X G00 G Lv hv cv Le ce I) (hf : cf own G G') (ho : ∀ y, own y → (13 ≤ hp_kd G y ∧ hp_kd G y ≤ 21) ∨ y = q.1.2.2.2.1) (h0 : ∀ y, hp_kd G00 y ≠ 0 → own y → y = q.1.2.2.2.1) (hR : R G → R' G') : fnI R' q Q k0 Lf p S X G00 G' Lv hv cv Le ce I := by
  obtain ⟨⟨⟨⟨a1, a1'⟩, a1''⟩, a2⟩, ⟨b1, b2, b3⟩, hL, ⟨n1, n2, n3, n4, n5⟩, ⟨f0, k00⟩, F, hF, hF1, hF2, hF3⟩ := h
  have kR := a2.1.1
  have kB := a2.2.1.1
  have hk : ∀ y, own y → (13 ≤ hp_kd G y ∧ hp_kd G y ≤ 21) ∨ hp_kd G y = 3 := fun y u => (ho y u).imp id (fun w => by rw [w]; exact kB)
  have x : rx q.1 own G G' := rx_of hf (fun a u => by have := hk a u; constructor <;> omega)
  have nR : ¬ own q.1.2.1 := fun u => by have := hk _ u; omega
  have nT : ¬ own q.1.2.2.1 := fun u => by have := hk _ u; have := a2.2.2.1.1; omega
  have nn : ¬ own (qn q) := fun u => by have := hk _ u; omega
  have kn0 : hp_kd G (qn q) ≠ 0 := by rw [b1]; decide
  have kR0 : hp_kd G q.1.2.1 ≠ 0 := by rw [kR]; decide
  have al6 : ∀ {a n c : Nat} {e : Nat → Option Nat}, al q.1.1 G a n c e → al q.1.1 G' a n c e := fun u => u.fr hf (fun w => by have := hk _ w; have := u.1.1; omega) (fun y _ hy w => by have := hk _ w; omega)
  obtain ⟨⟨l1, l2, l3, l4⟩, l5⟩ := hL
  refine ⟨⟨⟨⟨a1.fr2 hf x.2.1 (fun y u => by have := hk _ u; omega), hR a1'⟩, (hf.i kn0 nn).trans a1''⟩, a2.fr hf nR nT⟩, ⟨hf.k b1 (by decide), b2, by rw [hf.r kR0 nR]; exact b3⟩, ⟨⟨by rw [hf.r kn0 nn]; exact l1, l2, l3.cg (hf.lg (by rw [l4.1.1]; decide)), al6 l4⟩, fun k' u1 u2 => (l5 k' u1 u2).rx x kR kB (fun y u => ⟨by have := hk _ u; omega, fun L w1 w2 w3 => by have := hk _ u; have := al_ok w3 w2; omega⟩)⟩, ⟨by rw [hf.r kn0 nn]; exact n1, by rw [hf.r kn0 nn]; exact n2, n3, n4.cg (hf.lg (by rw [n5.1.1]; decide)), al6 n5⟩, ⟨⟨f0.1.tr2 hf (fun y hy u => Or.inr (Or.inr (Or.inl (h0 y hy u)))), fun a l w => x.2.1 _ _ (f0.2.1 _ _ w), fun a l w => x.2.2 _ _ (f0.2.2 _ _ w)⟩, fun k' hk' => by rw [hf.r kR0 nR]; exact k00 k' hk'⟩, F, fun v u1 u2 => (hF v u1 u2).fr2 hf x.2.2 (fun y u => by have := hk _ u; omega), hF1, hF2, hF3⟩
/-- beside the left sides: expressions, empty lists -/
def fnB (q : PZ) (S : MS) (X : Nat → Nat) (lo : Nat) (G00 : GH) (Lc Lm Lr : Nat) (nml : List Nat) (cq : Nat) (G : GH) : Prop := (∀ e, lo ≤ e → e < pr_p S → xe q S G X e ∧ (∀ j, lo ≤ j → j < e → X j ≠ X e) ∧ xht S e) ∧ (ndl q G00 G (qn q) 4 Lc ∧ ndl q G00 G (qn q) 5 Lm ∧ ndl q G00 G (qn q) 6 Lr) ∧ (∃ nm, hp_r G (qn q) 0 = some nm ∧ st q.1.1 G nm nml) ∧ rat q.1 cq G
theorem fnB.k {Lc Lm Lr e : Nat} {nml : List Nat} (h : fnB q S X lo G00 Lc Lm Lr nml cq G) (h1 : lo ≤ e) (h2 : e < pr_p S) : 13 ≤ hp_kd G (X e) ∧ hp_kd G (X e) ≤ 21 := by
  rw [(h.1 e h1 h2).1.1.1]
  exact xk_r _
theorem fnB.fr {own : Nat → Prop} {Lc Lm Lr : Nat} {nml : List Nat} (h : fnB q S X lo G00 Lc Lm Lr nml cq G) (hf : cf own G G') (kn : hp_kd G (qn q) = 8) (ho : ∀ y, own y → (13 ≤ hp_kd G y ∧ hp_kd G y ≤ 21) ∨ hp_kd G y = 3 ∨ hp_kd G y = 6) (hx : ∀ e, lo ≤ e → e < pr_p S → xe q S G X e → xe q S G' X e) : fnB q S X lo G00 Lc Lm Lr nml cq G' := by
  obtain ⟨h1, ⟨h2, h3, h4⟩, ⟨nm, h5, h6⟩, h7⟩ := h
  have nn : ¬ own (qn q) := fun u => by have := ho _ u; omega
  have kn0 : hp_kd G (qn q) ≠ 0 := by rw [kn]; decide
  have er := hf.r kn0 nn
  have hnd : ∀ k L, ndl q G00 G (qn q) k L → ndl q G00 G' (qn q) k L := fun k L u => by
    obtain ⟨a, b, c, d⟩ := u
    exact ⟨by rw [er]; exact a, b, c.cg (hf.lg (by rw [d.1.1]; decide)), d.fr hf (fun w => by have := ho _ w; have := d.1.1; omega) (fun y _ hy w => by have := ho _ w; omega)⟩
  have hx9 := rx_of (z := q.1) hf (fun a u => by have := ho a u; constructor <;> omega)
  exact ⟨fun e a b => ⟨hx e a b (h1 e a b).1, (h1 e a b).2⟩, ⟨hnd _ _ h2, hnd _ _ h3, hnd _ _ h4⟩, ⟨nm, by rw [er]; exact h5, hx9.2.2 _ _ h6⟩, h7.fr hf hx9.2.2 (fun u => by have := ho _ u; have := h7.1.1.1; omega) (fun u => by have := ho _ u; have := h7.1.2.2.1.1; omega)⟩
/-- an expression's object under writes elsewhere -/
theorem xe.el {e : Nat} {own : Nat → Prop} (h : xe q S G X e) (hf : cf own G G') (ho : ∀ y, own y → hp_kd G y = 3 ∨ hp_kd G y = 6) : xe q S G' X e := by
  have hr := xk_r (S.2 32 e)
  have kx := h.1.1
  exact h.gr0 hf (hf.r (by omega) (fun u => by have := ho _ u; omega)) (fun k _ => by rw [hf.i (by omega) (fun u => by have := ho _ u; omega)]) (fun L _ w2 y w3 u => by have := ho _ u; have := al_ok w3 w2; omega)
theorem fnB.s5 {Lc Lm Lr y : Nat} {e : Option Nat} {nml : List Nat} (h : fnB q S X lo G00 Lc Lm Lr nml cq G) (kn : hp_kd G (qn q) = 8) (hy : hp_kd G y = 6) : fnB q S X lo G00 Lc Lm Lr nml cq (hp_sR G y 5 e) := by
  have f : cf (fun a => a = y) G (hp_sR G y 5 e) := cf.rf.sR (Or.inl rfl)
  exact h.fr f kn (fun a u => Or.inr (Or.inr (by rw [u]; exact hy))) (fun e' _ _ u => u.el f (fun a w => Or.inr (by rw [w]; exact hy)))
/-- what the checks look at, from what finish knows -/
theorem fnI.tw {p Lc Lm Lr : Nat} {nml : List Nat} (h : fnI (fnB q S X lo G00 Lc Lm Lr nml cq) q Q k0 Lf p S X G00 G Lv hv cv Le ce I) (hnh : ∀ f, f < pr_N S → nh q S G00 f) (hR0 : hp_kd G00 q.1.2.1 = 12) (hB0 : hp_kd G00 q.1.2.2.2.1 = 3) : tw q lo (pr_p S) S X G := by
  obtain ⟨⟨⟨⟨a1, a1'⟩, a1''⟩, a2⟩, ⟨b1, b2, b3⟩, hL, -, ⟨f0, k00⟩, F, hF, -⟩ := h
  refine ⟨⟨a2, a1⟩, a1'.1, fun v u1 u2 => ⟨F v, hF v u1 u2⟩, fun f hf => (hnh f hf).fr f0.1 ?_⟩
  rintro y (u | u | u | u)
  · exact u.elim
  · rw [u, hR0]; decide
  · rw [u, hB0]; decide
  · rw [u]; decide
/-- types and clocks of the state don't matter -/
theorem vxb.jst {k v : Nat} {A C : Nat → Int32} {F : Option Nat} (h : vxb q S G v F) : vxb q (jg_st S k A C) G v F := by
  obtain ⟨h1, h2, h3, h4, h5, bb, b1, b2⟩ := h
  refine ⟨h1, h2, h3, h4, h5, bb, b1, ?_⟩
  rw [md_dep_22 (S := S) (S' := jg_st S k A C) rfl]
  exact b2
theorem tw.jst {k : Nat} {A C : Nat → Int32} (h : tw q lo hi S X G) : tw q lo hi (jg_st S k A C) X G := ⟨h.1, h.2.1, fun v a b => (h.2.2.1 v a b).imp (fun _ u => u.jst), h.2.2.2⟩
theorem fnB.jst {k Lc Lm Lr : Nat} {nml : List Nat} {A C : Nat → Int32} (h : fnB q S X lo G00 Lc Lm Lr nml cq G) : fnB q (jg_st S k A C) X lo G00 Lc Lm Lr nml cq G := h
theorem fnI.jst {k p Lc Lm Lr : Nat} {nml : List Nat} {A C : Nat → Int32} (h : fnI (fnB q S X lo G00 Lc Lm Lr nml cq) q Q k0 Lf p S X G00 G Lv hv cv Le ce I) : fnI (fnB q (jg_st S k A C) X lo G00 Lc Lm Lr nml cq) q Q k0 Lf p (jg_st S k A C) X G00 G Lv hv cv Le ce I := by
  obtain ⟨h1, h2, h3, h4, h5, F, f1, f2, f3, f4⟩ := h
  exact ⟨h1, h2, h3, h4, h5, F, fun v a b => (f1 v a b).jst, f2, f3, f4⟩
/-- the full clocks of the equations before k -/
def fcF (q : PZ) (S : MS) (X : Nat → Nat) (G : GH) (F : Nat → Int32) (P L : Nat → Nat) (k0 k : Nat) : Prop := ∀ j, k0 ≤ j → j < k → (∀ x, P j ≤ x → x < P (j + 1) → clk q S G X x (F x)) ∧ F (P (j + 1) - 1) = (if S.2 36 (P (j + 1) - 1) = -2 then jc_v S (jg_v S (L j)) else S.2 36 (P (j + 1) - 1)) ∧ stF S (S.2 36) F (P j) (P (j + 1))
end
