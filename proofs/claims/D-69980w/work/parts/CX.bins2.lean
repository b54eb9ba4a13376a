/-! one bin of a table is replaced -/
set_option maxRecDepth 100000
theorem sg_cg {g g' : Nat → Nat} : ∀ m p, (∀ j, p ≤ j → j < p + m → g j = g' j) → sg g m p = sg g' m p := by
  intro m
  induction m with
  | zero => intro p _; rfl
  | succ m ih =>
    intro p h
    show sg g m p + g (p + m) = sg g' m p + g' (p + m)
    rw [ih p (fun j h1 h2 => h j h1 (by omega)), h (p + m) (by omega) (by omega)]
theorem sg_upd {u : Nat → Nat} {i v : Nat} : ∀ m, i < m → sg (fun j => if j = i then v else u j) m 0 + u i = sg u m 0 + v := by
  intro m
  induction m with
  | zero => intro h; omega
  | succ m ih =>
    intro h
    show sg (fun j => if j = i then v else u j) m 0 + (if 0 + m = i then v else u (0 + m)) + u i = sg u m 0 + u (0 + m) + v
    rw [Nat.zero_add]
    by_cases e : m = i
    · rw [if_pos e, e]
      have : sg (fun j => if j = i then v else u j) i 0 = sg u i 0 := sg_cg i 0 (fun j h1 h2 => if_neg (by omega))
      rw [this]
      omega
    · rw [if_neg e]
      have := ih (by omega)
      omega
section
variable {w : WD} {G G' : GH} {a t k i : Nat}
theorem bins_put {own : Nat → Prop} {E : Nat → List Nat → Nat → Prop} {u : Nat → Nat} {E' : List Nat → Nat → Prop} {u' : Nat} (hb : ∀ j, j < 2 ^ k → bk w G a k j (hp_r G t j) (E j) (u j)) (hf : cf own G G') (hst : ∀ b m, st w G b m → st w G' b m) (ho : ∀ x, 24 ≤ hp_kd G x → hp_kd G x ≤ 25 → own x → hix k (hp_i G x 0) = i) (ht : ∀ j, j ≠ i → hp_r G' t j = hp_r G t j) (hi : bk w G' a k i (hp_r G' t i) E' u') :
    ∀ j, j < 2 ^ k → bk w G' a k j (hp_r G' t j) ((fun j => if j = i then E' else E j) j) ((fun j => if j = i then u' else u j) j) := by
  intro j hj
  dsimp only
  by_cases e : j = i
  · rw [if_pos e, if_pos e, e]; exact hi
  · rw [if_neg e, if_neg e, ht j e]
    exact (hb j hj).fr hf hst (fun x hx1 hx2 _ hx3 o => e (hx3.symm.trans (ho x hx1 hx2 o)))
/-- a map out of its bins -/
theorem hmt_of {E : Nat → List Nat → Nat → Prop} {u : Nat → Nat} {N : Nat} {m : List Nat → Option Nat} (hb : ∀ j, j < 2 ^ k → bk w G a k j (hp_r G t j) (E j) (u j)) (ka : hp_kd G a = 23) (aA : hp_A w a) (kt : hp_kd G t = 35) (tA : hp_A w t) (ot : ow G t a) (lt : hp_ln G t = 2 ^ k) (e2 : hp_r G a 2 = some t) (hk4 : 4 ≤ k) (hk8 : k ≤ 8) (e6 : hp_i G a 6 = nI (3 * 2 ^ (k - 2))) (hN : sg u (2 ^ k) 0 ≤ N) (hm : ∀ l v, m l = some v ↔ E (hix k (hx l)) l v) : hmt w G a N m := by
  obtain ⟨Lf, Vf, B, g1, g2, g3⟩ := glue hb kt tA ot lt
  refine ⟨⟨ka, aA⟩, Or.inr ⟨t, k, Lf, Vf, B, e2, g1, hk4, hk8, e6, ?_, fun l v => ?_⟩⟩
  · rw [sg_cg (g' := u) _ _ (fun j _ h2 => g2 j (by omega))]
    exact hN
  · rw [g3 _ hix_lt]; exact hm l v
/-- a map as its bins -/
theorem hmt.bins {N t : Nat} {m : List Nat → Option Nat} (h : hmt w G a N m) (e2 : hp_r G a 2 = some t) : ∃ (k : Nat) (E : Nat → List Nat → Nat → Prop) (u : Nat → Nat), (∀ j, j < 2 ^ k → bk w G a k j (hp_r G t j) (E j) (u j)) ∧ hp_kd G t = 35 ∧ hp_A w t ∧ ow G t a ∧ hp_ln G t = 2 ^ k ∧ 4 ≤ k ∧ k ≤ 8 ∧ hp_i G a 6 = nI (3 * 2 ^ (k - 2)) ∧ sg u (2 ^ k) 0 ≤ N ∧ (∀ l v, m l = some v ↔ E (hix k (hx l)) l v) ∧ ∀ j l v, j < 2 ^ k → E j l v → hix k (hx l) = j := by
  obtain ⟨-, h⟩ := h
  rcases h with ⟨u, -⟩ | ⟨t', k, Lf, Vf, B, q1, q2, q3, q4, q5, q6, q7⟩
  · rw [e2] at u; cases u
  · have e : t' = t := Option.some.inj (q1.symm.trans e2)
    subst e
    exact ⟨k, fun j l v => ∃ x, x ∈ B j ∧ Lf x = l ∧ Vf x = v, fun j => (B j).length, fun j hj => q2.toB hj, q2.1, q2.2.1, q2.2.2.1, q2.2.2.2.1, q3, q4, q5, q6, q7, fun j l v hj ⟨x, hx, e, _⟩ => by rw [← e]; exact ((q2.2.2.2.2.1 j hj).2.2.1 x hx).2⟩
end
