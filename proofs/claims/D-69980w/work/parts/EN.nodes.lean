/-! THE COMPONENT: nodes that have been read, one behind the other -/
set_option maxRecDepth 100000
section
variable {q : PZ} {S S' : MS} {X Q : Nat → Nat} {F : Nat → Int32} {kq : Nat → Nat} {a a' i o lo hi k0 k1 t : Nat} {G G' : GH} {own : Nat → Prop} {Ln hN cn c : Nat}
theorem lz.nrm {k n : Nat} {el : Nat → Option Nat} (h : lz q G t k n el) (kt : hp_kd G t ≠ 0) : lz q (nrmG G) t k n el := by
  obtain ⟨L, c, h1, h2, h3⟩ := h
  exact ⟨L, c, h1, h2.nrm kt, h3.nrm⟩
theorem nz.nrm (h : nz q S X Q F kq a a' i o lo hi k0 k1 t G) : nz q S X Q F kq a a' i o lo hi k0 k1 t (nrmG G) := by
  obtain ⟨h1, h4, h5, h6, h7, h8, h9, h10⟩ := h
  have kt : hp_kd G t ≠ 0 := by rw [h1.1]; decide
  refine ⟨h1, h4.nrm kt, h5.nrm kt, h6.nrm kt, h7.nrm kt, h8, fun k u1 u2 => ?_, fun e u1 u2 => ?_⟩
  · obtain ⟨a1, a2, a3, a4⟩ := h9 k u1 u2
    exact ⟨a1, a2, a3, lz.nrm (q := q) (t := Q k) (k := 0) a4 (by rw [a1]; decide)⟩
  · obtain ⟨a1, a2, a3, a4⟩ := h10 e u1 u2
    have := xk_r (S.2 32 e)
    exact ⟨a1, a2, fun u => lz.nrm (q := q) (t := X e) (k := 3) (a3 u) (by omega), a4⟩
theorem nsI.nrm (h : nsI q c S G Ln cn hN) : nsI q c S (nrmG G) Ln cn hN := by
  obtain ⟨a1, a2, a3, ⟨⟨a4, a4'⟩, a5⟩, ⟨a6, a7⟩, a8⟩ := h
  exact ⟨a1, a2, a3, ⟨⟨a4, a4'.nrm (by rw [a1.1.1.1]; decide)⟩, a5.nrm⟩, ⟨a6, a7.nrm⟩, a8⟩
/-- what was read of the state stands -/
def ag (v k l p : Nat) (S S' : MS) : Prop := (∀ x j, x = 22 ∨ x = 24 → j < v → S'.2 x j = S.2 x j) ∧ (∀ x j, x = 25 ∨ x = 27 ∨ x = 29 → j < k → S'.2 x j = S.2 x j) ∧ (∀ j, j ≤ k → S'.2 26 j = S.2 26 j) ∧ (∀ j, j < l → S'.2 28 j = S.2 28 j) ∧ ∀ x e, 32 ≤ x → x ≤ 39 → e < p → S'.2 x e = S.2 x e
theorem ag.of {N v k l p : Nat} (h : nk N v k l p S S') : ag v k l p S S' := ⟨fun x j hx => h.2.2.1 x j (by omega), h.2.2.2.1, h.2.2.2.2.1, h.2.2.2.2.2.1, fun x e h1 h2 => h.2.2.2.2.2.2.1 x e h1 (Or.inl h2)⟩
theorem ag.tr {S0 : MS} {v k l p v' k' l' p' : Nat} (h : ag v k l p S0 S) (h2 : ag v' k' l' p' S S') (hv : v ≤ v') (hk : k ≤ k') (hl : l ≤ l') (hp : p ≤ p') : ag v k l p S0 S' :=
  ⟨fun x j hx hj => (h2.1 x j hx (by omega)).trans (h.1 x j hx hj), fun x j hx hj => (h2.2.1 x j hx (by omega)).trans (h.2.1 x j hx hj), fun j hj => (h2.2.2.1 j (by omega)).trans (h.2.2.1 j hj), fun j hj => (h2.2.2.2.1 j (by omega)).trans (h.2.2.2.1 j hj), fun x e h1 h3 he => (h2.2.2.2.2 x e h1 h3 (by omega)).trans (h.2.2.2.2 x e h1 h3 he)⟩
/-- the rules of the full clocks of an equation -/
def fcA (S : MS) (F : Nat → Int32) (a k : Nat) : Prop := F (jg_n (S.2 27 k)) = (if S.2 36 (jg_n (S.2 27 k)) = -2 then S.2 22 (a + jg_v S (jg_n (S.2 26 k))) else S.2 36 (jg_n (S.2 27 k))) ∧ ∀ y, jg_n (S.2 29 k) ≤ y → y ≤ jg_n (S.2 27 k) → ∀ x ∈ kls S y, F x = if S.2 36 x = -2 then (if S.2 32 y = 26 then S.2 22 (a + (S.2 33 y).toNatClampNeg / 2) else F y) else S.2 36 x
/-- the ghosts of a node: the parser's world, the state, objects of expressions, of equations, full clocks, an expression's equation -/
abbrev ND : Type := PZ × MS × (Nat → Nat) × (Nat → Nat) × (Nat → Int32) × (Nat → Nat)
/-- a node f that has been read -/
def ndZ (q : PZ) (S : MS) (d : ND) (TP TC TA : Nat → Nat) (f a a' k0 k1 l' lo hi : Nat) (G : GH) : Prop :=
  (d.1.1 = q.1 ∧ ∀ g, g < f → qN d.1 g = qN q g) ∧ nz d.1 d.2.1 d.2.2.1 d.2.2.2.1 d.2.2.2.2.1 d.2.2.2.2.2 a a' (jg_n (S.2 13 f)) (jg_n (S.2 14 f)) lo hi k0 k1 (qN q f) G ∧ ag a' k1 l' hi d.2.1 S ∧
  (TP f = k1 - k0 + (hi - lo) + sT TP d.2.1 (cls d.2.1 lo hi) (cls d.2.1 lo hi).length ∧ TC f = nx_t nx_s (d.2.1.2 32) lo (hi - lo) + sT TC d.2.1 (cls d.2.1 lo hi) (cls d.2.1 lo hi).length ∧ TA f = a' - a + sT TA d.2.1 (cls d.2.1 lo hi) (cls d.2.1 lo hi).length) ∧
  (∀ k, k0 ≤ k → k < k1 → fcA d.2.1 d.2.2.2.2.1 a k) ∧ (∀ k, k0 ≤ k → k < k1 → ∀ x, jg_n (d.2.1.2 29 k) ≤ x → x ≤ jg_n (d.2.1.2 27 k) → d.2.2.2.2.2 x = k) ∧ ∀ x, lo ≤ x → x < hi → d.2.1.2 32 x = 3 → jg_n (d.2.1.2 33 x) < f
/-- the nodes so far -/
def rdZ (q : PZ) (c : Nat) (S : MS) (d : Nat → ND) (TP TC TA A P Qn L : Nat → Nat) (Ln cn hN : Nat) (G : GH) : Prop :=
  nsI q c S G Ln cn hN ∧ sn G ∧ (nd_I (rz_n q.1) c S ∧ nfs (rz_T q.1) (rz_n q.1) S A Qn P L) ∧ nT q S TP TC TA G ∧ (cn ≤ 100 ∧ (∀ f, f < pr_N S → A (f + 1) ≤ pr_v S ∧ Qn (f + 1) ≤ pr_k S ∧ L (f + 1) ≤ pr_l S ∧ P (f + 1) ≤ pr_p S)) ∧ ∀ f, f < pr_N S → ndZ q S (d f) TP TC TA f (A f) (A (f + 1)) (Qn f) (Qn (f + 1)) (L (f + 1)) (P f) (P (f + 1)) G
theorem nT.fr {TP TC TA : Nat → Nat} (h : nT q S TP TC TA G) (hf : cf own G G') (ho : ∀ g, g < pr_N S → ¬ own (qN q g)) : nT q S TP TC TA G' := fun g hg => by
  obtain ⟨u1, u2, u3, u4⟩ := h g hg
  have e := hf.i (by rw [u1]; decide) (ho g hg)
  exact ⟨hf.k u1 (by decide), by rw [e]; exact u2, by rw [e]; exact u3, by rw [e]; exact u4⟩
/-- a called node, from one that has been read -/
theorem ndZ.nh {d : ND} {TP TC TA : Nat → Nat} {f l' : Nat} (h : ndZ q S d TP TC TA f a a' k0 k1 l' lo hi G) (h12 : S.2 12 f = nI a) (ha : a < 2 ^ 31) (h13 : S.2 13 f = nI i) (h14 : S.2 14 f = nI o) (hb : a + i + o ≤ a' ∧ a' ≤ 6000) : nh q S G f := by
  obtain ⟨⟨d1, d2⟩, ⟨⟨z1, z2, z3⟩, ⟨L, c, z4, z5, z6⟩, -, -, -, z8, -⟩, hag, -⟩ := h
  have j13 : jg_n (S.2 13 f) = i := by rw [h13]; exact nI_clamp (by omega)
  have j14 : jg_n (S.2 14 f) = o := by rw [h14]; exact nI_clamp (by omega)
  have j12 : jg_n (S.2 12 f) = a := by rw [h12]; exact nI_clamp (by omega)
  rw [d1] at z6
  refine ⟨⟨z1, by rw [z2, j13, h13], by rw [z3, j14, h14]⟩, L, c, a' - a, fun j => qV d.1 (a + j), z4, z6, by rw [j13, j14]; omega, fun j hj => ?_⟩
  obtain ⟨⟨v1, v2, -⟩, -⟩ := z8 (a + j) (Nat.le_add_right _ _) (by omega)
  rw [d1] at v2
  exact ⟨v1, by rw [v2, j12, hag.1 24 (a + j) (Or.inr rfl) (by omega)]⟩
end
