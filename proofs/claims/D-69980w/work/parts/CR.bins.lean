/-! bins by their contents; a list is split in two -/
set_option maxRecDepth 100000
/-- the chain p is bin i of 2 ^ k, its entries are E, n of them -/
def bk (w : WD) (G : GH) (a k i : Nat) (p : Option Nat) (E : List Nat → Nat → Prop) (n : Nat) : Prop := ∃ C L V, hch G p C ∧ hbn w G a k L V i C ∧ (∀ x ∈ C, ∀ y ∈ C, L x = L y → x = y) ∧ (∀ l v, (∃ x, x ∈ C ∧ L x = l ∧ V x = v) ↔ E l v) ∧ C.length = n
section
variable {w : WD} {G G' : GH} {a k i : Nat}
theorem bk.fr {own : Nat → Prop} {p : Option Nat} {E : List Nat → Nat → Prop} {n : Nat} (h : bk w G a k i p E n) (hf : cf own G G') (hst : ∀ b m, st w G b m → st w G' b m) (ho : ∀ x, 24 ≤ hp_kd G x → hp_kd G x ≤ 25 → ow G x a → hix k (hp_i G x 0) = i → ¬ own x) : bk w G' a k i p E n := by
  obtain ⟨C, L, V, h1, ⟨h2, h3, h4⟩, h5, h6, h7⟩ := h
  have no : ∀ x ∈ C, ¬ own x := fun x hx => by
    obtain ⟨⟨n1, -, n3, n4, -⟩, n5⟩ := h3 x hx
    exact ho x n1.1 n1.2 n3 (by rw [n4]; exact n5)
  have kx : ∀ x ∈ C, hp_kd G x ≠ 0 := fun x hx => by have := (h3 x hx).1.1; omega
  have h0 : ∀ x ∈ C, hp_kd G' x = hp_kd G x ∧ hp_r G' x = hp_r G x := fun x hx => ⟨hf.kd (kx x hx), hf.r (kx x hx) (no x hx)⟩
  refine ⟨C, L, V, hch.fr _ _ (fun x hx => (h0 x hx).2) h1, ⟨h2, fun x hx => ⟨(h3 x hx).1.fr hf hst (no x hx), (h3 x hx).2⟩, ?_⟩, h5, h6, h7⟩
  rcases h4 with h4 | ⟨r, xs, ps, lo, hi, e, p1, p2, p3⟩
  · exact Or.inl fun x hx => by rw [(h0 x hx).1]; exact h4 x hx
  · exact Or.inr ⟨r, xs, ps, lo, hi, e, hpv.fr _ _ (fun x hx => (h0 x hx).2) p1, p2.fr h0, p3⟩
theorem bk.nil {E : List Nat → Nat → Prop} (hE : ∀ l v, ¬ E l v) : bk w G a k i none E 0 :=
  ⟨[], fun _ => [], fun _ => 0, rfl, ⟨List.nodup_nil, (fun x hx => by cases hx), Or.inl (fun x hx => by cases hx)⟩, (fun x hx => by cases hx), fun l v => ⟨fun ⟨x, hx, _⟩ => (by cases hx), fun u => absurd u (hE l v)⟩, rfl⟩
/-- the bit k of a hash -/
theorem hix_bit {k : Nat} {h : Int32} (hk : k ≤ 20) : (h &&& nI (2 ^ k) = 0 → hix (k + 1) h = hix k h) ∧ (h &&& nI (2 ^ k) ≠ 0 → hix (k + 1) h = hix k h + 2 ^ k) := by
  have hp : 2 ^ k < 2 ^ 32 := Nat.pow_lt_pow_right (by decide) (by omega)
  have e1 : (h &&& nI (2 ^ k)).toBitVec.toNat = h.toBitVec.toNat &&& 2 ^ k := by
    have e2 : (nI (2 ^ k)).toBitVec.toNat = 2 ^ k := by
      show (BitVec.ofNat 32 (2 ^ k)).toNat = 2 ^ k
      rw [BitVec.toNat_ofNat]
      exact Nat.mod_eq_of_lt hp
    rw [Int32.toBitVec_and, BitVec.toNat_and, e2]
  have e3 : hix (k + 1) h = hix k h + 2 ^ k * (h.toBitVec.toNat / 2 ^ k % 2) := by
    unfold hix
    exact Nat.mod_pow_succ
  have e5 : h.toBitVec.toNat.testBit k = decide (h.toBitVec.toNat / 2 ^ k % 2 = 1) := Nat.testBit_eq_decide_div_mod_eq
  constructor
  · intro e
    rw [e] at e1
    have e6 : h.toBitVec.toNat &&& 2 ^ k = 0 := e1.symm
    have e7 : (h.toBitVec.toNat &&& 2 ^ k).testBit k = false := by rw [e6]; exact Nat.zero_testBit k
    rw [Nat.testBit_and, Nat.testBit_two_pow_self, Bool.and_true, e5] at e7
    have u := of_decide_eq_false e7
    have : h.toBitVec.toNat / 2 ^ k % 2 = 0 := by omega
    rw [e3, this, Nat.mul_zero, Nat.add_zero]
  · intro e
    by_cases u : h.toBitVec.toNat / 2 ^ k % 2 = 1
    · rw [e3, u, Nat.mul_one]
    · exfalso
      apply e
      apply Int32.toBitVec_inj.1
      apply BitVec.eq_of_toNat_eq
      rw [e1]
      refine Nat.eq_of_testBit_eq fun b => ?_
      rw [Nat.testBit_and, Nat.testBit_two_pow]
      by_cases eb : k = b
      · rw [← eb, e5, decide_eq_false u, Bool.false_and]
        exact (Nat.zero_testBit k).symm
      · rw [decide_eq_false eb, Bool.and_false]
        exact (Nat.zero_testBit b).symm
theorem hix_half {k : Nat} {h : Int32} : hix k h = hix (k + 1) h % 2 ^ k := by
  unfold hix
  rw [Nat.pow_succ]
  exact (Nat.mod_mul_right_mod _ _ _).symm
/-- one more at the end of a list -/
theorem app_list {pl : List Nat} {q : Nat} {p : Option Nat} (hc : hch G p pl) (hv : hpv G none pl) (nd : pl.Nodup) (h3 : ∀ x ∈ pl, hp_r G' x 3 = if lst none pl = some x then some q else hp_r G x 3) (h7 : ∀ x ∈ pl, hp_r G' x 7 = hp_r G x 7) (q3 : hp_r G' q 3 = none) (q7 : hp_r G' q 7 = lst none pl) :
    hch G' (if pl = [] then some q else p) (pl ++ [q]) ∧ hpv G' none (pl ++ [q]) := by
  refine ⟨?_, (hpv_app _ _ _).2 ⟨hpv.fr7 _ _ h7 hv, q7, trivial⟩⟩
  cases pl with
  | nil => rw [if_pos rfl]; exact ⟨rfl, q3⟩
  | cons x xs =>
    rw [if_neg (by intro e; cases e)]
    rw [← hseg_ch] at hc ⊢
    obtain ⟨z, hz⟩ : ∃ z, lst none (x :: xs) = some z := by
      cases e : lst none (x :: xs) with
      | some z => exact ⟨z, rfl⟩
      | none =>
        exfalso
        have key : ∀ (xs : List Nat) (y : Nat), lst (some y) xs ≠ none := by
          intro xs
          induction xs with
          | nil => intro y h; cases h
          | cons v vs ih => intro y h; exact ih v h
        exact key xs x e
    have zm : z ∈ x :: xs := (lst_mem _ _ z hz).elim (fun e => by cases e) id
    refine (hseg_app _ _ _ _).2 ⟨some q, hseg_last _ _ none hc z (some q) hz nd (fun y hy hne => ?_) ?_, rfl, q3⟩
    · rw [h3 y hy, hz, if_neg (fun e => hne (Option.some.inj e).symm)]
    · rw [h3 z zm, hz, if_pos rfl]
theorem map_inj : ∀ (ys : List Nat) (f : Nat → Nat), (ys.map f).Nodup → ∀ x ∈ ys, ∀ y ∈ ys, f x = f y → x = y
  | [], _, _, x, hx, _, _, _ => by cases hx
  | z :: zs, f, h, x, hx, y, hy, e => by
    have h' := List.nodup_cons.1 h
    rcases List.mem_cons.1 hx with u | u <;> rcases List.mem_cons.1 hy with v | v
    · rw [u, v]
    · exact absurd (by rw [← u, e]; exact List.mem_map.2 ⟨y, v, rfl⟩) h'.1
    · exact absurd (by rw [← v, ← e]; exact List.mem_map.2 ⟨x, u, rfl⟩) h'.1
    · exact map_inj zs f h'.2 x u y v e
/-- a bin of plain nodes in place of others -/
theorem bk_cpn {pl ys : List Nat} {f : Nat → Nat} {p : Option Nat} {Lf : Nat → List Nat} {Vf : Nat → Nat} (h : cpn w G G' a 24 f pl ys) (hc : hch G' p ys) (nd : pl.Nodup) (hN : ∀ x ∈ pl, hn w G a x (Lf x) (Vf x) ∧ hix k (hx (Lf x)) = i) (hinj : ∀ x ∈ pl, ∀ y ∈ pl, Lf x = Lf y → x = y) (hst : ∀ b m, st w G b m → st w G' b m) (hkd : ∀ x, hp_kd G x ≠ 0 → hp_kd G' x = hp_kd G x) :
    bk w G' a k i p (fun l v => ∃ x, x ∈ pl ∧ Lf x = l ∧ Vf x = v) pl.length := by
  obtain ⟨h1, h2, h3⟩ := h
  have fm : ∀ y ∈ ys, f y ∈ pl := fun y hy => by rw [← h1]; exact List.mem_map.2 ⟨y, hy, rfl⟩
  refine ⟨ys, fun y => Lf (f y), fun y => Vf (f y), hc, ⟨h2, fun y hy => ⟨?_, (hN _ (fm y hy)).2⟩, Or.inl fun y hy => (h3 y hy).2.1⟩, fun x hx y hy e => map_inj ys f (by rw [h1]; exact nd) x hx y hy (hinj _ (fm x hx) _ (fm y hy) e), fun l v => ⟨fun ⟨y, hy, e1, e2⟩ => ⟨f y, fm y hy, e1, e2⟩, fun ⟨x, hx, e1, e2⟩ => ?_⟩, by rw [← h1, List.length_map]⟩
  · obtain ⟨-, a2, a3, a4, a5, a6, a7⟩ := h3 y hy
    obtain ⟨n1, n2, n3, n4, ⟨key, n5, n6⟩, n7, n8, n9⟩ := (hN _ (fm y hy)).1
    exact ⟨by rw [a2]; decide, a3, a4, a5.trans n4, ⟨key, a6.trans n5, hst _ _ n6⟩, a7.trans n7, by rw [hkd _ n8]; exact n8, by rw [hkd _ n8]; exact n9⟩
  · rw [← h1] at hx
    obtain ⟨y, hy, e⟩ := List.mem_map.1 hx
    exact ⟨y, hy, by dsimp only; rw [e]; exact e1, by dsimp only; rw [e]; exact e2⟩
/-- a tree's bin -/
theorem bk_tf {t : Nat} {pl : List Nat} {Lf : Nat → List Nat} {Vf : Nat → Nat} {v : Option WV} (h : tf_P G t i pl Lf v G') (ht : t ∉ pl) (hN : ∀ x ∈ pl, hn w G a x (Lf x) (Vf x) ∧ hix k (hx (Lf x)) = i) (hinj : ∀ x ∈ pl, ∀ y ∈ pl, Lf x = Lf y → x = y) (nd : pl.Nodup) (hst : ∀ b m, st w G b m → st w G' b m) :
    bk w G' a k i (hp_r G' t i) (fun l v => ∃ x, x ∈ pl ∧ Lf x = l ∧ Vf x = v) pl.length := by
  obtain ⟨-, B', m1, m2, m3, m4, m5⟩ := h
  refine ⟨B', Lf, Vf, m3, ⟨m2, fun x hx => ?_, Or.inr m4⟩, fun x hx y hy => hinj x ((m1 x).1 hx) y ((m1 y).1 hy), fun l v => ⟨fun ⟨x, hx, e⟩ => ⟨x, (m1 x).1 hx, e⟩, fun ⟨x, hx, e⟩ => ⟨x, (m1 x).2 hx, e⟩⟩, ?_⟩
  · have hx' := (m1 x).1 hx
    exact ⟨(hN x hx').1.tk m5 (fun e => ht (by rw [← e]; exact hx')) hst, (hN x hx').2⟩
  · exact (List.perm_ext_iff_of_nodup m2 nd).2 m1 |>.length_eq
end
