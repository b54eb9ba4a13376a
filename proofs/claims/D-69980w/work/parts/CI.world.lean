/-! THE COMPONENT's PARSER: its world -/
set_option maxRecDepth 100000
def ty (w : WD) (t : Int32) : Option Nat := hp_sv w "StreamNodes$Type" (if t = 0 then "INT" else "BOOL")
def zBASE (w : WD) : Option Nat := hp_sv w "StreamNodes" "BASE"
def zANY (w : WD) : Option Nat := hp_sv w "StreamNodes" "ANY"
/-- the constants: words, ArrayList's empty array, the two clocks that are on nothing, the types -/
def kc (w : WD) (G : GH) : Prop := kw w G ∧ kE w G ∧ (∃ b y, zBASE w = some b ∧ zANY w = some y ∧ b ≠ y ∧ (hp_kd G b = 5 ∧ hp_i G b 2 = 0 ∧ hp_r G b 0 = none) ∧ hp_kd G y = 5 ∧ hp_i G y 2 = 0 ∧ hp_r G y 0 = none) ∧ (ty w 0 ≠ ty w 1 ∧ ty w 0 ≠ none ∧ ty w 1 ≠ none)
/-- the reader's world; variables' objects and kinds; nodes' objects; the node that is read; the calls with many left sides: equation, how many -/
abbrev PZ : Type := RZ × ((Nat → Nat) × (Nat → Int32)) × (Nat → Nat) × Nat × (Nat → Option (Nat × Nat))
def qV (q : PZ) : Nat → Nat := q.2.1.1
def qK (q : PZ) : Nat → Int32 := q.2.1.2
def qN (q : PZ) : Nat → Nat := q.2.2.1
def qn (q : PZ) : Nat := q.2.2.2.1
def qM (q : PZ) : Nat → Option (Nat × Nat) := q.2.2.2.2
/-- the clock of the code c, dp deep: a Beat -/
def bt (w : WD) (V : Nat → Nat) (a : Nat) (G : GH) (b : Nat) (c : Int32) (dp : Nat) : Prop := (c = -1 ∧ zBASE w = some b ∧ dp = 0) ∨ ∃ k s, s < 2 ∧ k < 2 ^ 29 ∧ c = nI (2 * k + s) ∧ hp_kd G b = 5 ∧ hp_r G b 0 = some (V (a + k)) ∧ hp_i G b 1 = nI s ∧ hp_i G b 2 = nI dp ∧ dp ≤ 8
/-- the names as words -/
def nlv (T : Nat → Int32) (S : MS) (v : Nat) : List Nat := wd T (S.2 20 v).toNatClampNeg ((S.2 20 v).toNatClampNeg + (S.2 21 v).toNatClampNeg)
def nln (T : Nat → Int32) (S : MS) (f : Nat) : List Nat := wd T (S.2 10 f).toNatClampNeg ((S.2 10 f).toNatClampNeg + (S.2 11 f).toNatClampNeg)
/-- the map of names from a on, below b -/
def mpf (nl : Nat → List Nat) (a b : Nat) (V : Nat → Nat) : List Nat → Option Nat := fun l => if lx_find (fun i => decide (nl i = l)) a b < b then some (V (lx_find (fun i => decide (nl i = l)) a b)) else none
/-- the variable v -/
def vx (q : PZ) (S : MS) (G : GH) (v : Nat) : Prop := (hp_kd G (qV q v) = 6 ∧ hp_A q.1.1 (qV q v)) ∧ (∃ nm, hp_r G (qV q v) 0 = some nm ∧ st q.1.1 G nm (nlv (rz_T q.1) S v)) ∧ hp_r G (qV q v) 1 = ty q.1.1 (S.2 24 v) ∧ hp_i G (qV q v) 2 = qK q v ∧ (hp_i G (qV q v) 3 = nI (v - pr_a S) ∧ hp_r G (qV q v) 5 = none) ∧ ∃ b, hp_r G (qV q v) 4 = some b ∧ bt q.1.1 (qV q) (pr_a S) G b (S.2 22 v) (md_dep S (pr_a S) (v + 1) v)
/-- what a parser knows; the variables below b -/
def env (q : PZ) (S : MS) (b : Nat) (G : GH) : Prop := kc q.1.1 G ∧ (hp_kd G (qn q) = 8 ∧ hp_A q.1.1 (qn q) ∧ hp_r G q.1.2.1 10 = some (qn q)) ∧
  (∃ hN, hp_r G q.1.2.1 9 = some hN ∧ hm q.1.1 G hN (pr_N S) (mpf (nln (rz_T q.1) S) 0 (pr_N S) (qN q))) ∧ (∃ hv, hp_r G (qn q) 2 = some hv ∧ hm q.1.1 G hv (b - pr_a S) (mpf (nlv (rz_T q.1) S) (pr_a S) b (qV q))) ∧
  (∀ f, f < pr_N S → hp_kd G (qN q f) = 8) ∧ ∀ v, pr_a S ≤ v → v < b → vx q S G v
/-- the kind of an expression's object, an operation's number -/
def xk (s : Int32) : Nat := if s = 0 ∨ s = 1 then 13 else if s = 2 then 14 else if s = 3 then 21 else if s = 4 then 16 else if s = 5 ∨ s = 6 then 17 else if s = 24 then 18 else if s = 25 then 20 else if s = 26 then 19 else 15
def xo (s : Int32) : Int32 := if s = 7 then 14 else if s = 8 then 12 else if s = 9 then 13 else if s = 10 then 11 else if s = 11 then 9 else if s = 12 then 10 else if s = 13 then 5 else if s = 14 then 6 else if s = 15 then 7 else if s = 16 then 8 else if s = 17 then 0 else if s = 18 then 1 else if s = 19 then 2 else if s = 20 then 3 else if s = 21 then 4 else if s = 22 then 15 else 16
/-- what is named, by the sort -/
def xw (q : PZ) (a : Nat) (G : GH) (e x : Nat) (s o : Int32) : Prop :=
  (s = 0 ∨ s = 1 → hp_i G x 3 = o ∧ hp_r G x 4 = ty q.1.1 s) ∧ (s = 2 → hp_r G x 3 = some (qV q (a + o.toNatClampNeg))) ∧
  (s = 3 → hp_r G x 5 = some (qN q o.toNatClampNeg) ∧ ((qM q e = none ∧ hp_i G x 6 = 1 ∧ hp_r G x 7 = none) ∨ ∃ k m, qM q e = some (k, m) ∧ hp_i G x 6 = nI m ∧ hp_r G x 7 = some k)) ∧
  (s = 5 → hp_i G x 5 = 0) ∧ (s = 6 → hp_i G x 5 = 1) ∧ (7 ≤ s ∧ s ≤ 23 → hp_i G x 5 = xo s) ∧ (s = 26 → ∃ k t, t < 2 ∧ k < 2 ^ 29 ∧ o = nI (2 * k + t) ∧ hp_r G x 5 = some (qV q (a + k)) ∧ hp_i G x 6 = nI t)
/-- the parts of x are those of the numbers ks -/
def xl (q : PZ) (G : GH) (X : Nat → Nat) (x : Nat) (ks : List Nat) : Prop := hp_r G x 4 = some q.1.2.2.2.1 ∧ ∃ L c, hp_r G x 3 = some L ∧ ow G L x ∧ al q.1.1 G L ks.length c (fun i => some (X (ks.getD i 0)))
/-- the object of the expression e -/
def xe (q : PZ) (S : MS) (G : GH) (X : Nat → Nat) (e : Nat) : Prop := (hp_kd G (X e) = xk (S.2 32 e) ∧ hp_A q.1.1 (X e)) ∧ hp_i G (X e) 2 = S.2 39 e ∧ xw q (pr_a S) G e (X e) (S.2 32 e) (S.2 33 e) ∧ ∃ ks, md_ch (S.2 35) (S.2 34 e) ks ∧ (∀ k ∈ ks, k < e) ∧ (3 ≤ S.2 32 e → xl q G X (X e) ks)
/-- heights -/
def xh (S : MS) (e : Nat) : Nat := (S.2 39 e).toNatClampNeg
def xht (S : MS) (e : Nat) : Prop := (1 ≤ xh S e ∧ xh S e ≤ 200 ∧ S.2 39 e = nI (xh S e)) ∧ ∃ ks, md_ch (S.2 35) (S.2 34 e) ks ∧ ∀ k ∈ ks, k < e ∧ xh S k < xh S e
/-- the expressions from lo on; their objects differ -/
def fx (q : PZ) (lo : Nat) (S : MS) (X : Nat → Nat) (G : GH) : Prop := ∀ e, lo ≤ e → e < pr_p S → xe q S G X e ∧ (∀ j, lo ≤ j → j < e → X j ≠ X e) ∧ xht S e
/-- where the parser stands -/
def pst (q : PZ) (lo c : Nat) (S : MS) (X : Nat → Nat) (G : GH) : Prop := rat q.1 c G ∧ env q S (pr_v S) G ∧ fx q lo S X G ∧ S.2 0 = rz_T q.1
/-- how it got on -/
def pin (q : PZ) (S : MS) (X : Nat → Nat) (G : GH) (S' : MS) (X' : Nat → Nat) (G' : GH) : Prop := pe_same S S' ∧ pr_p S ≤ pr_p S' ∧ (∀ j, j < pr_p S → X' j = X j) ∧ (∀ j, pr_p S ≤ j → j < pr_p S' → hp_kd G (X' j) = 0) ∧ rx q.1 no9 G G' ∧ rkk q.1 G G'
theorem pin.id0 {q : PZ} {S : MS} {X : Nat → Nat} {G : GH} : pin q S X G S X G := ⟨pe_same.rf, Nat.le_refl _, fun _ _ => rfl, fun j a b => absurd b (by omega), rx.id0, fun _ _ => rfl⟩
theorem pin.tr {q : PZ} {S S1 S2 : MS} {X X1 X2 : Nat → Nat} {G G1 G2 : GH} (h : pin q S X G S1 X1 G1) (h2 : pin q S1 X1 G1 S2 X2 G2) : pin q S X G S2 X2 G2 := by
  obtain ⟨a1, a2, a3, a4, a5, a6⟩ := h
  obtain ⟨b1, b2, b3, b4, b5, b6⟩ := h2
  refine ⟨a1.tr b1, by omega, fun j hj => (b3 j (by omega)).trans (a3 j hj), fun j hj hj2 => ?_, a5.tr b5 (fun _ _ u => u), fun k hk => (b6 k hk).trans (a6 k hk)⟩
  rcases Nat.lt_or_ge j (pr_p S1) with u | u
  · rw [b3 j u]; exact a4 j hj u
  · exact a5.1.fresh (b4 j u hj2)
/-- cells that parsing doesn't touch -/
theorem rx.old {z : RZ} {own : Nat → Prop} {G G' : GH} (h : rx z own G G') (hR : hp_kd G z.2.1 = 12) (hB : hp_kd G z.2.2.2.1 = 3) {x : Nat} (hx : hp_kd G x ≠ 0) (ho : ¬ own x) (h1 : hp_kd G x ≠ 12 ∧ hp_kd G x ≠ 3 ∧ hp_kd G x ≠ 26) : hp_i G' x = hp_i G x ∧ hp_r G' x = hp_r G x ∧ hp_l G' x = hp_l G x := by
  refine (h.1 x hx).2 ?_
  rintro (u | u | u | u)
  · exact ho u
  · rw [u] at h1; exact h1.1 hR
  · rw [u] at h1; exact h1.2.1 hB
  · exact h1.2.2 u
/-- kinds of expressions and of lists -/
def ok9 (k : Nat) : Prop := (13 ≤ k ∧ k ≤ 22) ∨ k = 32 ∨ k = 7
theorem xk_r (s : Int32) : 13 ≤ xk s ∧ xk s ≤ 21 := by
  unfold xk
  repeat' split
  all_goals decide
theorem kc.fr {z : RZ} {own : Nat → Prop} {G G' : GH} (h : kc z.1 G) (hR : hp_kd G z.2.1 = 12) (hB : hp_kd G z.2.2.2.1 = 3) (hf : rx z own G G') (ho : ∀ y, own y → ok9 (hp_kd G y)) : kc z.1 G' := by
  obtain ⟨h1, h2, ⟨b, y, y1, y2, y3, ⟨y4, y5, y6⟩, y7, y8, y9⟩, h4⟩ := h
  obtain ⟨e1, e2, -⟩ := hf.old hR hB (x := b) (by rw [y4]; decide) (fun u => by have := ho _ u; unfold ok9 at this; omega) (by rw [y4]; decide)
  obtain ⟨f1, f2, -⟩ := hf.old hR hB (x := y) (by rw [y7]; decide) (fun u => by have := ho _ u; unfold ok9 at this; omega) (by rw [y7]; decide)
  exact ⟨fun tx ht => hf.2.1 _ _ (h1 tx ht), h2.fr hf.1, ⟨b, y, y1, y2, y3, ⟨hf.1.k y4 (by decide), by rw [e1]; exact y5, by rw [e2]; exact y6⟩, hf.1.k y7 (by decide), by rw [f1]; exact y8, by rw [f2]; exact y9⟩, h4⟩
section
variable {q : PZ} {S S' : MS} {G G' : GH} {own : Nat → Prop}
theorem vx.fr {v : Nat} (h : vx q S G v) (hR : hp_kd G q.1.2.1 = 12) (hB : hp_kd G q.1.2.2.2.1 = 3) (hf : rx q.1 own G G') (ho : ∀ y, own y → ok9 (hp_kd G y)) : vx q S G' v := by
  obtain ⟨⟨h1, h2⟩, ⟨nm, h3, h4⟩, h5, h6, h7, b, h8, h9⟩ := h
  obtain ⟨e1, e2, -⟩ := hf.old hR hB (x := qV q v) (by rw [h1]; decide) (fun u => by have := ho _ u; unfold ok9 at this; omega) (by rw [h1]; decide)
  refine ⟨⟨hf.1.k h1 (by decide), h2⟩, ⟨nm, by rw [e2]; exact h3, hf.2.2 _ _ h4⟩, by rw [e2]; exact h5, by rw [e1]; exact h6, ⟨by rw [e1]; exact h7.1, by rw [e2]; exact h7.2⟩, b, by rw [e2]; exact h8, ?_⟩
  rcases h9 with h9 | ⟨k, s, k1, k2, k3, k4, k5, k6, k7⟩
  · exact Or.inl h9
  · obtain ⟨f1, f2, -⟩ := hf.old hR hB (x := b) (by rw [k4]; decide) (fun u => by have := ho _ u; unfold ok9 at this; omega) (by rw [k4]; decide)
    exact Or.inr ⟨k, s, k1, k2, k3, hf.1.k k4 (by decide), by rw [f2]; exact k5, by rw [f1]; exact k6, by rw [f1]; exact k7⟩
theorem hm_rx {z : RZ} {a s : Nat} {m : List Nat → Option Nat} (h : hm z.1 G a s m) (hR : hp_kd G z.2.1 = 12) (hB : hp_kd G z.2.2.2.1 = 3) (hf : rx z own G G') (ho : ∀ y, own y → ok9 (hp_kd G y)) : hm z.1 G' a s m := by
  have k1 := h.1.1
  refine h.fr hf.1 hf.2.2 ?_ (fun x _ hx => ?_)
  · rintro (u | u | u | u)
    · have := ho _ u; unfold ok9 at this; omega
    · rw [u, hR] at k1; cases k1
    · rw [u, hB] at k1; cases k1
    · rw [u] at k1; cases k1
  · rintro (u | u | u | u)
    · have := ho _ u; unfold ok9 at this; omega
    · rw [u, hR] at hx; omega
    · rw [u, hB] at hx; omega
    · rw [u] at hx; omega
theorem env.fr {b : Nat} (h : env q S b G) (hR : hp_kd G q.1.2.1 = 12) (hB : hp_kd G q.1.2.2.2.1 = 3) (hf : rx q.1 own G G') (ho : ∀ y, own y → ok9 (hp_kd G y)) (hk : ∀ k, 8 ≤ k → hp_r G' q.1.2.1 k = hp_r G q.1.2.1 k) : env q S b G' := by
  obtain ⟨h1, ⟨h2, h3, h4⟩, ⟨hN, h5, h6⟩, ⟨hv, h7, h8⟩, h9, h10⟩ := h
  obtain ⟨e1, e2, -⟩ := hf.old hR hB (x := qn q) (by rw [h2]; decide) (fun u => by have := ho _ u; unfold ok9 at this; omega) (by rw [h2]; decide)
  exact ⟨h1.fr hR hB hf ho, ⟨hf.1.k h2 (by decide), h3, by rw [hk 10 (by decide)]; exact h4⟩, ⟨hN, by rw [hk 9 (by decide)]; exact h5, hm_rx h6 hR hB hf ho⟩, ⟨hv, by rw [e2]; exact h7, hm_rx h8 hR hB hf ho⟩, fun f hfN => hf.1.k (h9 f hfN) (by decide), fun v v1 v2 => (h10 v v1 v2).fr hR hB hf ho⟩
/-- the cells of an expression's object x -/
def xc (G : GH) (x y : Nat) : Prop := y = x ∨ (ow G y x ∧ hp_kd G y = 22) ∨ ∃ L, (ow G L x ∧ hp_kd G L = 22) ∧ ow G y L ∧ hp_kd G y = 32
theorem xl.fr {X : Nat → Nat} {x : Nat} {ks : List Nat} (h : xl q G X x ks) (hx : 13 ≤ hp_kd G x ∧ hp_kd G x ≤ 21) (hR : hp_kd G q.1.2.1 = 12) (hB : hp_kd G q.1.2.2.2.1 = 3) (hf : rx q.1 own G G') (ho : ∀ y, xc G x y → ¬ own y) : xl q G' X x ks := by
  obtain ⟨h1, L, c, h2, h3, h4⟩ := h
  obtain ⟨e1, e2, e3⟩ := hf.old hR hB (x := x) (by omega) (ho x (Or.inl rfl)) (by omega)
  have kL := h4.1.1
  obtain ⟨f1, f2, f3⟩ := hf.old hR hB (x := L) (by omega) (ho L (Or.inr (Or.inl ⟨h3, kL⟩))) (by omega)
  refine ⟨by rw [e2]; exact h1, L, c, by rw [e2]; exact h2, h3.cg f3, h4.fr hf.1 ?_ (fun y hy1 hy => ?_)⟩
  · rintro (u | u | u | u)
    · exact ho L (Or.inr (Or.inl ⟨h3, kL⟩)) u
    · rw [u, hR] at kL; cases kL
    · rw [u, hB] at kL; cases kL
    · rw [u] at kL; cases kL
  · rintro (u | u | u | u)
    · exact ho y (Or.inr (Or.inr ⟨L, ⟨h3, kL⟩, hy1, hy⟩)) u
    · rw [u, hR] at hy; cases hy
    · rw [u, hB] at hy; cases hy
    · rw [u] at hy; cases hy
theorem xe.fr {X : Nat → Nat} {e : Nat} (h : xe q S G X e) (hR : hp_kd G q.1.2.1 = 12) (hB : hp_kd G q.1.2.2.2.1 = 3) (hf : rx q.1 own G G') (ho : ∀ y, xc G (X e) y → ¬ own y) : xe q S G' X e := by
  obtain ⟨⟨h1, h2⟩, h3, h4, ks, h5, h6, h7⟩ := h
  have hr := xk_r (S.2 32 e)
  obtain ⟨e1, e2, e3⟩ := hf.old hR hB (x := X e) (by omega) (ho _ (Or.inl rfl)) (by omega)
  refine ⟨⟨hf.1.k h1 (by omega), h2⟩, by rw [e1]; exact h3, ?_, ks, h5, h6, fun u => (h7 u).fr (by omega) hR hB hf ho⟩
  unfold xw
  rw [e1, e2]
  exact h4
theorem rat.fr {z : RZ} {c : Nat} (h : rat z c G) (hf : cf own G G') (hst : ∀ a l, st z.1 G a l → st z.1 G' a l) (h1 : ¬ own z.2.1) (h2 : ¬ own z.2.2.1) : rat z c G' := by
  obtain ⟨a1, a2, a3, a4, a5, a6, a7⟩ := h
  have kR : hp_kd G z.2.1 ≠ 0 := by rw [a1.1.1]; decide
  refine ⟨a1.fr hf h1 h2, a2, by rw [hf.i kR h1]; exact a3, by rw [hf.i kR h1]; exact a4, by rw [hf.r kR h1]; exact a5, fun u => ?_, by rw [hf.i kR h1]; exact a7⟩
  obtain ⟨a, b1, b2⟩ := a6 u
  exact ⟨a, by rw [hf.r kR h1]; exact b1, hst _ _ b2⟩
theorem pst.fr {lo c c' : Nat} {X : Nat → Nat} (h : pst q lo c S X G) (h1 : rat q.1 c' G') (hf : rx q.1 own G G') (hk : ∀ k, 8 ≤ k → hp_r G' q.1.2.1 k = hp_r G q.1.2.1 k) (ho : ∀ y, own y → ok9 (hp_kd G y)) (hx : ∀ e, lo ≤ e → e < pr_p S → ∀ y, xc G (X e) y → ¬ own y) : pst q lo c' S X G' := by
  have hR := h.1.1.1.1
  have hB := h.1.1.2.1.1
  exact ⟨h1, h.2.1.fr hR hB hf ho hk, fun e e1 e2 => ⟨(h.2.2.1 e e1 e2).1.fr hR hB hf (hx e e1 e2), (h.2.2.1 e e1 e2).2⟩, h.2.2.2⟩
/-- after a scan -/
theorem pst.scan {lo c c' : Nat} {X : Nat → Nat} (h : pst q lo c S X G) (h1 : rat q.1 c' G') (h2 : rs q.1 G G') : pst q lo c' S X G' ∧ pin q S X G S X G' := by
  have hf := h2.1.toX no9
  exact ⟨h.fr h1 hf (fun k hk => h2.2 k (Or.inl hk)) (fun y u => absurd u id) (fun _ _ _ _ _ u => u), pe_same.rf, Nat.le_refl _, fun _ _ => rfl, fun j a b => absurd b (by omega), hf, fun k hk => h2.2 k (by omega)⟩
/-- where only the reader stands still: writes at cells of new expressions -/
theorem pst.wr {lo c : Nat} {X : Nat → Nat} (h : pst q lo c S X G) (hf : cf own G G') (ho : ∀ y, own y → ok9 (hp_kd G y)) (hx : ∀ e, lo ≤ e → e < pr_p S → ∀ y, xc G (X e) y → ¬ own y) : pst q lo c S X G' := by
  have hR := h.1.1.1.1
  have hrx := rx_of (z := q.1) hf (fun a u => by have := ho a u; unfold ok9 at this; omega)
  have nR : ¬ own q.1.2.1 := fun u => by have := ho _ u; unfold ok9 at this; omega
  have nT : ¬ own q.1.2.2.1 := fun u => by have := ho _ u; have h2 := h.1.1.2.2.1.1; unfold ok9 at this; omega
  exact h.fr (h.1.fr hf hrx.2.2 nR nT) hrx (fun k _ => by rw [hf.r (by rw [hR]; decide) nR]) ho hx
end
