/-! THE COMPONENT: a node that has been read -/
set_option maxRecDepth 100000
/-- an expression's object: what it names; a, the node's first variable -/
def xz (q : PZ) (S : MS) (X : Nat → Nat) (G : GH) (F : Nat → Int32) (a lo e : Nat) : Prop :=
  hp_kd G (X e) = xk (S.2 32 e) ∧ xw q a G e (X e) (S.2 32 e) (S.2 33 e) ∧ (3 ≤ S.2 32 e → ∃ L c, hp_r G (X e) 3 = some L ∧ ow G L (X e) ∧ al q.1.1 G L (kls S e).length c (fun i => some (X ((kls S e).getD i 0)))) ∧ (∃ b, hp_r G (X e) 1 = some b ∧ bc q a G b (F e)) ∧ (S.2 32 e = 3 → hp_i G (X e) 8 = nI (cls S lo e).length) ∧ (isM (S.2 32 e) → hp_i G (X e) (nuf (S.2 32 e)) = nI (mes S lo e).length)
/-- a variable's -/
def vz (q : PZ) (S : MS) (G : GH) (a i o v : Nat) : Prop := hp_kd G (qV q v) = 6 ∧ hp_r G (qV q v) 1 = ty q.1.1 (S.2 24 v) ∧ hp_i G (qV q v) 2 = (if v < a + i then 0 else if v < a + i + o then 1 else 2) ∧ hp_i G (qV q v) 3 = nI (v - a) ∧ ∃ b, hp_r G (qV q v) 4 = some b ∧ bc q a G b (S.2 22 v)
/-- an Equation's -/
def ez (q : PZ) (S : MS) (X Q : Nat → Nat) (G : GH) (a k : Nat) : Prop := hp_kd G (Q k) = 7 ∧ hp_i G (Q k) 2 = S.2 25 k ∧ hp_r G (Q k) 1 = some (X (jg_n (S.2 27 k))) ∧ ∃ L c, hp_r G (Q k) 0 = some L ∧ ow G L (Q k) ∧ al q.1.1 G L (jg_n (S.2 26 (k + 1)) - jg_n (S.2 26 k)) c (fun i => some (qV q (a + jg_v S (jg_n (S.2 26 k) + i))))
/-- a list of t -/
def lz (q : PZ) (G : GH) (t k n : Nat) (el : Nat → Option Nat) : Prop := ∃ L c, hp_r G t k = some L ∧ ow G L t ∧ al q.1.1 G L n c el
/-- what gives the variable v its value -/
def dz (q : PZ) (S : MS) (Q : Nat → Nat) (G : GH) (a k0 k1 v : Nat) : Prop := (∃ k j, k0 ≤ k ∧ k < k1 ∧ jg_n (S.2 26 k) ≤ j ∧ j < jg_n (S.2 26 (k + 1)) ∧ v = a + jg_v S j ∧ hp_r G (qV q v) 5 = some (Q k)) ∨ ((∀ k j, k0 ≤ k → k < k1 → jg_n (S.2 26 k) ≤ j → j < jg_n (S.2 26 (k + 1)) → v ≠ a + jg_v S j) ∧ hp_r G (qV q v) 5 = none)
/-- the node t: variables a .. a' - 1, expressions lo .. hi - 1, equations k0 .. k1 - 1 -/
def nz (q : PZ) (S : MS) (X Q : Nat → Nat) (F : Nat → Int32) (kq : Nat → Nat) (a a' i o lo hi k0 k1 t : Nat) (G : GH) : Prop :=
  (hp_kd G t = 8 ∧ hp_i G t 7 = nI i ∧ hp_i G t 8 = nI o) ∧ lz q G t 1 (a' - a) (fun j => some (qV q (a + j))) ∧
  lz q G t 4 (cls S lo hi).length (fun i => some (X ((cls S lo hi).getD i 0))) ∧ lz q G t 5 (mes S lo hi).length (fun i => some (X ((mes S lo hi).getD i 0))) ∧ lz q G t 6 (cls S lo hi).length (fun i => some (Q (kq ((cls S lo hi).getD i 0)))) ∧
  (∀ v, a ≤ v → v < a' → vz q S G a i o v ∧ dz q S Q G a k0 k1 v) ∧ (∀ k, k0 ≤ k → k < k1 → ez q S X Q G a k) ∧ (∀ e, lo ≤ e → e < hi → xz q S X G F a lo e)
/-- a cell of a text that has been read -/
def fzk (k : Nat) : Prop := (5 ≤ k ∧ k ≤ 8) ∨ (13 ≤ k ∧ k ≤ 21)
def fzl (G : GH) (L : Nat) : Prop := hp_kd G L = 22 ∧ ∃ x, ow G L x ∧ fzk (hp_kd G x)
def fzc (G : GH) (y : Nat) : Prop := fzk (hp_kd G y) ∨ fzl G y ∨ (hp_kd G y = 32 ∧ ∃ L, ow G y L ∧ fzl G L)
section
variable {q : PZ} {S S' : MS} {X X' Q Q' : Nat → Nat} {F F' : Nat → Int32} {kq kq' : Nat → Nat} {a a' i o lo hi k0 k1 t : Nat} {G G' : GH} {own : Nat → Prop}
theorem fzc.nl {L x y : Nat} (hL : hp_kd G L = 22) (hx : ow G L x) (kx : fzk (hp_kd G x)) (hy : al_o G L y) : fzc G y := by
  rcases hy with u | ⟨u1, u2⟩
  · rw [u]; exact Or.inr (Or.inl ⟨hL, x, hx, kx⟩)
  · exact Or.inr (Or.inr ⟨u2, L, u1, hL, x, hx, kx⟩)
theorem lz.fr {k n : Nat} {el : Nat → Option Nat} (h : lz q G t k n el) (hf : cf own G G') (kt : fzk (hp_kd G t)) (ho : ∀ y, hp_kd G y ≠ 0 → own y → ¬ fzc G y) : lz q G' t k n el := by
  obtain ⟨L, c, h1, h2, h3⟩ := h
  have kt0 : hp_kd G t ≠ 0 := by unfold fzk at kt; omega
  have kL := h3.1.1
  have kL0 : hp_kd G L ≠ 0 := by rw [kL]; decide
  exact ⟨L, c, by rw [hf.r kt0 (fun u => ho _ kt0 u (Or.inl kt))]; exact h1, h2.cg (hf.lg kL0), h3.fr hf (fun u => ho _ kL0 u (fzc.nl kL h2 kt (Or.inl rfl))) (fun y hy hk u => ho _ (by rw [hk]; decide) u (fzc.nl kL h2 kt (Or.inr ⟨hy, hk⟩)))⟩
theorem bc.fz {b : Nat} {c : Int32} (h : bc q a G b c) (hf : cf own G G') (ho : ∀ y, hp_kd G y ≠ 0 → own y → ¬ fzc G y) : bc q a G' b c := by
  rcases h with h | h | ⟨k, s, k1, k2, k3, k4, k5, k6⟩
  · exact Or.inl h
  · exact Or.inr (Or.inl h)
  · have kb : hp_kd G b ≠ 0 := by rw [k4]; decide
    have nb : ¬ own b := fun u => ho _ kb u (Or.inl (Or.inl ⟨by rw [k4]; decide, by rw [k4]; decide⟩))
    exact Or.inr (Or.inr ⟨k, s, k1, k2, k3, hf.k k4 (by decide), by rw [hf.r kb nb]; exact k5, by rw [hf.i kb nb]; exact k6⟩)
theorem nz.fr (h : nz q S X Q F kq a a' i o lo hi k0 k1 t G) (hf : cf own G G') (ho : ∀ y, hp_kd G y ≠ 0 → own y → ¬ fzc G y) : nz q S X Q F kq a a' i o lo hi k0 k1 t G' := by
  obtain ⟨⟨h1, h2, h3⟩, h4, h5, h6, h7, h8, h9, h10⟩ := h
  have kt : fzk (hp_kd G t) := Or.inl ⟨by rw [h1]; decide, by rw [h1]; decide⟩
  have kt0 : hp_kd G t ≠ 0 := by rw [h1]; decide
  have nt : ¬ own t := fun u => ho _ kt0 u (Or.inl kt)
  refine ⟨⟨hf.k h1 (by decide), by rw [hf.i kt0 nt]; exact h2, by rw [hf.i kt0 nt]; exact h3⟩, h4.fr hf kt ho, h5.fr hf kt ho, h6.fr hf kt ho, h7.fr hf kt ho, fun v v1 v2 => ?_, fun k u1 u2 => ?_, fun e u1 u2 => ?_⟩
  · obtain ⟨⟨a1, a2, a3, a4, b, a5, a6⟩, d⟩ := h8 v v1 v2
    have kv0 : hp_kd G (qV q v) ≠ 0 := by rw [a1]; decide
    have nv : ¬ own (qV q v) := fun u => ho _ kv0 u (Or.inl (Or.inl ⟨by rw [a1]; decide, by rw [a1]; decide⟩))
    have er := hf.r kv0 nv
    have ei := hf.i kv0 nv
    refine ⟨⟨hf.k a1 (by decide), by rw [er]; exact a2, by rw [ei]; exact a3, by rw [ei]; exact a4, b, by rw [er]; exact a5, a6.fz hf ho⟩, ?_⟩
    rcases d with ⟨k, j, d1, d2, d3, d4, d5, d6⟩ | ⟨d1, d2⟩
    · exact Or.inl ⟨k, j, d1, d2, d3, d4, d5, by rw [er]; exact d6⟩
    · exact Or.inr ⟨d1, by rw [er]; exact d2⟩
  · obtain ⟨a1, a2, a3, L, c, a4, a5, a6⟩ := h9 k u1 u2
    have kk0 : hp_kd G (Q k) ≠ 0 := by rw [a1]; decide
    have kk : fzk (hp_kd G (Q k)) := Or.inl ⟨by rw [a1]; decide, by rw [a1]; decide⟩
    have nk : ¬ own (Q k) := fun u => ho _ kk0 u (Or.inl kk)
    obtain ⟨L', c', b1, b2, b3⟩ := lz.fr (t := Q k) (k := 0) ⟨L, c, a4, a5, a6⟩ hf kk ho
    exact ⟨hf.k a1 (by decide), by rw [hf.i kk0 nk]; exact a2, by rw [hf.r kk0 nk]; exact a3, L', c', b1, b2, b3⟩
  · obtain ⟨a1, a2, a3, ⟨b, a4, a5⟩, a6, a7⟩ := h10 e u1 u2
    have hr := xk_r (S.2 32 e)
    have kx0 : hp_kd G (X e) ≠ 0 := by omega
    have kx : fzk (hp_kd G (X e)) := Or.inr (by omega)
    have nx : ¬ own (X e) := fun u => ho _ kx0 u (Or.inl kx)
    have er := hf.r kx0 nx
    have ei := hf.i kx0 nx
    refine ⟨hf.k a1 (by omega), by unfold xw; rw [er, ei]; exact a2, fun u => ?_, ⟨b, by rw [er]; exact a4, a5.fz hf ho⟩, by rw [ei]; exact a6, by rw [ei]; exact a7⟩
    exact lz.fr (t := X e) (k := 3) (a3 u) hf kx ho
/-- in other terms -/
theorem nz.cg {q' : PZ} (h : nz q S X Q F kq a a' i o lo hi k0 k1 t G) (e1 : q'.1 = q.1) (eV : ∀ v, a ≤ v → v < a' → qV q' v = qV q v) (eM : ∀ e, lo ≤ e → e < hi → qM q' e = qM q e) (eX : ∀ e, lo ≤ e → e < hi → X' e = X e) (eQ : ∀ k, k0 ≤ k → k < k1 → Q' k = Q k) (eF : ∀ e, lo ≤ e → e < hi → F' e = F e) (ekq : ∀ e, lo ≤ e → e < hi → kq' e = kq e)
    (s1 : ∀ x v, x = 22 ∨ x = 24 → a ≤ v → v < a' → S'.2 x v = S.2 x v) (s2 : ∀ x k, x = 25 ∨ x = 27 → k0 ≤ k → k < k1 → S'.2 x k = S.2 x k) (s3 : ∀ k, k0 ≤ k → k ≤ k1 → S'.2 26 k = S.2 26 k) (s4 : ∀ k j, k0 ≤ k → k < k1 → jg_n (S.2 26 k) ≤ j → j < jg_n (S.2 26 (k + 1)) → S'.2 28 j = S.2 28 j) (s5 : ∀ x e, x = 32 ∨ x = 33 → lo ≤ e → e < hi → S'.2 x e = S.2 x e) (s6 : ∀ e, lo ≤ e → e < hi → kls S' e = kls S e)
    (hN : ∀ e, lo ≤ e → e < hi → S.2 32 e = 3 → qN q' (S.2 33 e).toNatClampNeg = qN q (S.2 33 e).toNatClampNeg)
    (b1 : ∀ e, lo ≤ e → e < hi → (S.2 32 e = 2 → a + (S.2 33 e).toNatClampNeg < a') ∧ (∀ k, k ∈ kls S e → lo ≤ k ∧ k < hi)) (b2 : ∀ e, lo ≤ e → e < hi → ∀ k s, s < 2 → k < 2 ^ 29 → (F e = nI (2 * k + s) ∨ (S.2 32 e = 26 ∧ S.2 33 e = nI (2 * k + s))) → a + k < a') (b3 : ∀ v, a ≤ v → v < a' → ∀ k s, s < 2 → k < 2 ^ 29 → S.2 22 v = nI (2 * k + s) → a + k < a') (b4 : ∀ k, k0 ≤ k → k < k1 → lo ≤ jg_n (S.2 27 k) ∧ jg_n (S.2 27 k) < hi ∧ ∀ j, jg_n (S.2 26 k) ≤ j → j < jg_n (S.2 26 (k + 1)) → a + jg_v S j < a') (b5 : ∀ e, lo ≤ e → e < hi → k0 ≤ kq e ∧ kq e < k1) : nz q' S' X' Q' F' kq' a a' i o lo hi k0 k1 t G := by
  obtain ⟨h1, ⟨Lv, cv, l1, l2, l3⟩, ⟨Lc, cc, m1, m2, m3⟩, ⟨Lm, cm, n1, n2, n3⟩, ⟨Lr, cr, o1, o2, o3⟩, h8, h9, h10⟩ := h
  have ec : ∀ l, l ≤ hi → cls S' lo l = cls S lo l := fun l hl => by
    unfold cls
    refine List.filter_congr (fun x hx => ?_)
    rw [List.mem_range'_1] at hx
    rw [s5 32 x (Or.inl rfl) (by omega) (by omega)]
  have em : ∀ l, l ≤ hi → mes S' lo l = mes S lo l := fun l hl => by
    unfold mes
    refine List.filter_congr (fun x hx => ?_)
    rw [List.mem_range'_1] at hx
    rw [s5 32 x (Or.inl rfl) (by omega) (by omega)]
  have hbc : ∀ b c, (∀ k s, s < 2 → k < 2 ^ 29 → c = nI (2 * k + s) → a + k < a') → bc q a G b c → bc q' a G b c := by
    rintro b c hh (u | u | ⟨k, s, u1, u2, u3, u4, u5, u6⟩)
    · exact Or.inl (by rw [e1]; exact u)
    · exact Or.inr (Or.inl (by rw [e1]; exact u))
    · exact Or.inr (Or.inr ⟨k, s, u1, u2, u3, u4, by rw [eV _ (Nat.le_add_right _ _) (hh k s u1 u2 u3)]; exact u5, u6⟩)
  have lc : ∀ i, i < (cls S lo hi).length → lo ≤ (cls S lo hi).getD i 0 ∧ (cls S lo hi).getD i 0 < hi := fun i hi9 => (cls_mem.1 (getD_memN hi9)).1
  have lm : ∀ i, i < (mes S lo hi).length → lo ≤ (mes S lo hi).getD i 0 ∧ (mes S lo hi).getD i 0 < hi := fun i hi9 => (mes_mem.1 (getD_memN hi9)).1
  refine ⟨h1, ⟨Lv, cv, l1, l2, ?_⟩, ⟨Lc, cc, m1, m2, ?_⟩, ⟨Lm, cm, n1, n2, ?_⟩, ⟨Lr, cr, o1, o2, ?_⟩, fun v v1 v2 => ?_, fun k u1 u2 => ?_, fun e u1 u2 => ?_⟩
  · rw [e1]; exact l3.cg (fun j hj => by show some (qV q' (a + j)) = some (qV q (a + j)); rw [eV _ (Nat.le_add_right _ _) (by omega)])
  · rw [e1, ec hi (Nat.le_refl _)]; exact m3.cg (fun j hj => by show some (X' _) = some (X _); rw [eX _ (lc j hj).1 (lc j hj).2])
  · rw [e1, em hi (Nat.le_refl _)]; exact n3.cg (fun j hj => by show some (X' _) = some (X _); rw [eX _ (lm j hj).1 (lm j hj).2])
  · rw [e1, ec hi (Nat.le_refl _)]
    refine o3.cg (fun j hj => ?_)
    show some (Q' (kq' _)) = some (Q (kq _))
    have := b5 _ (lc j hj).1 (lc j hj).2
    rw [ekq _ (lc j hj).1 (lc j hj).2, eQ _ this.1 this.2]
  · obtain ⟨⟨a1, a2, a3, a4, b, a5, a6⟩, d⟩ := h8 v v1 v2
    have ev := eV v v1 v2
    refine ⟨⟨by rw [ev]; exact a1, by rw [ev, e1, s1 24 v (Or.inr rfl) v1 v2]; exact a2, by rw [ev]; exact a3, by rw [ev]; exact a4, b, by rw [ev]; exact a5, by rw [s1 22 v (Or.inl rfl) v1 v2]; exact hbc b _ (b3 v v1 v2) a6⟩, ?_⟩
    have ej : ∀ k j, k0 ≤ k → k < k1 → jg_n (S.2 26 k) ≤ j → j < jg_n (S.2 26 (k + 1)) → jg_v S' j = jg_v S j := fun k j w1 w2 w3 w4 => by unfold jg_v; rw [s4 k j w1 w2 w3 w4]
    rcases d with ⟨k, j, d1, d2, d3, d4, d5, d6⟩ | ⟨d1, d2⟩
    · exact Or.inl ⟨k, j, d1, d2, by rw [s3 k d1 (by omega)]; exact d3, by rw [s3 (k + 1) (by omega) (by omega)]; exact d4, by rw [ej k j d1 d2 d3 d4]; exact d5, by rw [ev, eQ k d1 d2]; exact d6⟩
    · refine Or.inr ⟨fun k j w1 w2 w3 w4 => ?_, by rw [ev]; exact d2⟩
      rw [s3 k w1 (by omega)] at w3
      rw [s3 (k + 1) (by omega) (by omega)] at w4
      rw [ej k j w1 w2 w3 w4]
      exact d1 k j w1 w2 w3 w4
  · obtain ⟨a1, a2, a3, L, c, a4, a5, a6⟩ := h9 k u1 u2
    obtain ⟨c1, c2, c3⟩ := b4 k u1 u2
    have ek := eQ k u1 u2
    refine ⟨by rw [ek]; exact a1, by rw [ek, s2 25 k (Or.inl rfl) u1 u2]; exact a2, by rw [ek, s2 27 k (Or.inr rfl) u1 u2, eX _ c1 c2]; exact a3, L, c, by rw [ek]; exact a4, by rw [ek]; exact a5, ?_⟩
    rw [e1, s3 k u1 (by omega), s3 (k + 1) (by omega) (by omega)]
    refine a6.cg (fun j hj => ?_)
    show some (qV q' (a + jg_v S' (jg_n (S.2 26 k) + j))) = some (qV q (a + jg_v S (jg_n (S.2 26 k) + j)))
    have e9 : jg_v S' (jg_n (S.2 26 k) + j) = jg_v S (jg_n (S.2 26 k) + j) := by unfold jg_v; rw [s4 k _ u1 u2 (by omega) (by omega)]
    rw [e9, eV _ (Nat.le_add_right _ _) (c3 _ (by omega) (by omega))]
  · obtain ⟨a1, a2, a3, ⟨b, a4, a5⟩, a6, a7⟩ := h10 e u1 u2
    obtain ⟨c1, c2⟩ := b1 e u1 u2
    have ex := eX e u1 u2
    have e32 := s5 32 e (Or.inl rfl) u1 u2
    have e33 := s5 33 e (Or.inr rfl) u1 u2
    refine ⟨by rw [ex, e32]; exact a1, ?_, fun u => ?_, ⟨b, by rw [ex]; exact a4, by rw [eF e u1 u2]; exact hbc b _ (fun k s z1 z2 z3 => b2 e u1 u2 k s z1 z2 (Or.inl z3)) a5⟩, by rw [ex, e32, ec e (by omega)]; exact a6, by rw [ex, e32, em e (by omega)]; exact a7⟩
    · rw [ex, e32, e33]
      obtain ⟨x1, x2, x3, x4, x5, x6, x7⟩ := a2
      refine ⟨by rw [e1]; exact x1, fun u => ?_, fun u => ?_, x4, x5, x6, fun u => ?_⟩
      · rw [eV _ (Nat.le_add_right _ _) (c1 u)]; exact x2 u
      · rw [hN e u1 u2 u, eM e u1 u2]; exact x3 u
      · obtain ⟨k, s, y1, y2, y3, y4, y5⟩ := x7 u
        exact ⟨k, s, y1, y2, y3, by rw [eV _ (Nat.le_add_right _ _) (b2 e u1 u2 k s y1 y2 (Or.inr ⟨u, y3⟩))]; exact y4, y5⟩
    · rw [e32] at u
      obtain ⟨L, c, y1, y2, y3⟩ := a3 u
      refine ⟨L, c, by rw [ex]; exact y1, by rw [ex]; exact y2, ?_⟩
      rw [e1, s6 e u1 u2]
      refine y3.cg (fun j hj => ?_)
      show some (X' _) = some (X _)
      have := c2 _ (getD_memN hj)
      rw [eX _ this.1 this.2]
end
