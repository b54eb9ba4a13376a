/-! bins make a table; a table bin by bin -/
set_option maxRecDepth 100000
/-- a map, but for its count: at most N entries -/
def hmt (w : WD) (G : GH) (a N : Nat) (m : List Nat → Option Nat) : Prop := (hp_kd G a = 23 ∧ hp_A w a) ∧
  ((hp_r G a 2 = none ∧ hp_i G a 6 = 0 ∧ ∀ l, m l = none) ∨ ∃ t k Lf Vf B, hp_r G a 2 = some t ∧ htb w G a t k Lf Vf B ∧ 4 ≤ k ∧ k ≤ 8 ∧ hp_i G a 6 = nI (3 * 2 ^ (k - 2)) ∧ sg (fun i => (B i).length) (2 ^ k) 0 ≤ N ∧ ∀ l v, m l = some v ↔ ∃ x, x ∈ B (hix k (hx l)) ∧ Lf x = l ∧ Vf x = v)
section
variable {w : WD} {G G' : GH} {a t k : Nat}
theorem hm.toT {s : Nat} {m : List Nat → Option Nat} (h : hm w G a s m) : hmt w G a s m := by
  obtain ⟨⟨h1, h2, h3, h4⟩, h5⟩ := h
  refine ⟨⟨h1, h2⟩, ?_⟩
  rcases h5 with ⟨u1, u2, u3, u4⟩ | h5
  · exact Or.inl ⟨u1, u2, u4⟩
  · exact Or.inr h5
theorem hmt.toM {s : Nat} {m : List Nat → Option Nat} (h : hmt w G a s m) (h4 : hp_i G a 4 = nI s) (hs : s < 2 ^ 16) (h0 : hp_r G a 2 = none → s = 0) : hm w G a s m := by
  obtain ⟨⟨h1, h2⟩, h5⟩ := h
  refine ⟨⟨h1, h2, h4, hs⟩, ?_⟩
  rcases h5 with ⟨u1, u2, u4⟩ | h5
  · exact Or.inl ⟨u1, u2, h0 u1, u4⟩
  · exact Or.inr h5
theorem hbn.cg {i : Nat} {C : List Nat} {L L' : Nat → List Nat} {V V' : Nat → Nat} (h : hbn w G a k L V i C) (e : ∀ x ∈ C, L' x = L x ∧ V' x = V x) : hbn w G a k L' V' i C := by
  obtain ⟨h1, h2, h3⟩ := h
  refine ⟨h1, fun x hx => ?_, ?_⟩
  · rw [(e x hx).1, (e x hx).2]; exact h2 x hx
  · rcases h3 with h3 | ⟨r, xs, ps, lo, hi, q1, q2, q3, q4⟩
    · exact Or.inl h3
    · refine Or.inr ⟨r, xs, ps, lo, hi, q1, q2, q3, fun x hx y hy => ?_⟩
      rw [(e x hx).1, (e y hy).1]
      exact q4 x hx y hy
theorem glue {E : Nat → List Nat → Nat → Prop} {n : Nat → Nat} (h : ∀ i, i < 2 ^ k → bk w G a k i (hp_r G t i) (E i) (n i)) (kt : hp_kd G t = 35) (tA : hp_A w t) (ot : ow G t a) (ln : hp_ln G t = 2 ^ k) :
    ∃ Lf Vf B, htb w G a t k Lf Vf B ∧ (∀ i, i < 2 ^ k → (B i).length = n i) ∧ ∀ i, i < 2 ^ k → ∀ l v, (∃ x, x ∈ B i ∧ Lf x = l ∧ Vf x = v) ↔ E i l v := by
  have h' : ∀ i, ∃ F : List Nat × (Nat → List Nat) × (Nat → Nat), i < 2 ^ k → hch G (hp_r G t i) F.1 ∧ hbn w G a k F.2.1 F.2.2 i F.1 ∧ (∀ x ∈ F.1, ∀ y ∈ F.1, F.2.1 x = F.2.1 y → x = y) ∧ (∀ l v, (∃ x, x ∈ F.1 ∧ F.2.1 x = l ∧ F.2.2 x = v) ↔ E i l v) ∧ F.1.length = n i := fun i => by
    by_cases hi : i < 2 ^ k
    · obtain ⟨C, L, V, q⟩ := h i hi
      exact ⟨(C, L, V), fun _ => q⟩
    · exact ⟨([], fun _ => [], fun _ => 0), fun u => absurd u hi⟩
  obtain ⟨F, hF⟩ := Classical.skolem.1 h'
  have key : ∀ i, i < 2 ^ k → ∀ x ∈ (F i).1, hix k (hp_i G x 0) = i := fun i hi x hx => by
    obtain ⟨q1, q2, -⟩ := hF i hi
    obtain ⟨n1, n2⟩ := q2.2.1 x hx
    rw [n1.2.2.2.1]; exact n2
  have kL : ∀ i, i < 2 ^ k → ∀ x ∈ (F i).1, (F (hix k (hp_i G x 0))).2.1 x = (F i).2.1 x ∧ (F (hix k (hp_i G x 0))).2.2 x = (F i).2.2 x := fun i hi x hx => by rw [key i hi x hx]; exact ⟨rfl, rfl⟩
  refine ⟨fun x => (F (hix k (hp_i G x 0))).2.1 x, fun x => (F (hix k (hp_i G x 0))).2.2 x, fun i => (F i).1, ⟨kt, tA, ot, ln, fun i hi => ?_, fun i j x y hi hj hx hy e => ?_⟩, fun i hi => (hF i hi).2.2.2.2, fun i hi l v => ?_⟩
  · obtain ⟨q1, q2, -⟩ := hF i hi
    exact ⟨q1, q2.cg (fun x hx => kL i hi x hx)⟩
  · dsimp only at e
    rw [(kL i hi x hx).1, (kL j hj y hy).1] at e
    have e2 : i = j := by
      have a1 := ((hF i hi).2.1.2.1 x hx).2
      have a2 := ((hF j hj).2.1.2.1 y hy).2
      rw [e] at a1
      exact a1.symm.trans a2
    subst e2
    exact (hF i hi).2.2.1 x hx y hy e
  · rw [← (hF i hi).2.2.2.1 l v]
    constructor
    · rintro ⟨x, hx, e1, e2⟩
      dsimp only at e1 e2
      rw [(kL i hi x hx).1] at e1
      rw [(kL i hi x hx).2] at e2
      exact ⟨x, hx, e1, e2⟩
    · rintro ⟨x, hx, e1, e2⟩
      refine ⟨x, hx, ?_, ?_⟩
      · dsimp only; rw [(kL i hi x hx).1]; exact e1
      · dsimp only; rw [(kL i hi x hx).2]; exact e2
theorem htb.toB {Lf : Nat → List Nat} {Vf : Nat → Nat} {B : Nat → List Nat} (h : htb w G a t k Lf Vf B) {i : Nat} (hi : i < 2 ^ k) : bk w G a k i (hp_r G t i) (fun l v => ∃ x, x ∈ B i ∧ Lf x = l ∧ Vf x = v) (B i).length := by
  obtain ⟨h1, h2, h3, h4, h5, h6⟩ := h
  exact ⟨B i, Lf, Vf, (h5 i hi).1, (h5 i hi).2, fun x hx y hy e => h6 i i x y hi hi hx hy e, fun l v => Iff.rfl, rfl⟩
/-- what a resize may change -/
def rz_o (G : GH) (a t x : Nat) : Prop := x = a ∨ x = t ∨ ((24 ≤ hp_kd G x ∧ hp_kd G x ≤ 25) ∧ ow G x a)
/-- a resize has come to the bin j -/
def rz_I (w : WD) (G : GH) (a t n k : Nat) (E : Nat → List Nat → Nat → Prop) (u : Nat → Nat) (th : Int32) (j : Nat) (G1 : GH) : Prop := cf (rz_o G a t) G G1 ∧ (hp_kd G1 n = 35 ∧ hp_ln G1 n = 2 ^ (k + 1) ∧ ow G1 n a) ∧ (hp_r G1 a 2 = some n ∧ hp_i G1 a 4 = hp_i G a 4 ∧ hp_i G1 a 6 = th) ∧
  (∀ i, j ≤ i → i < 2 ^ k → bk w G1 a k i (hp_r G1 t i) (E i) (u i) ∧ hp_r G1 n i = none ∧ hp_r G1 n (i + 2 ^ k) = none) ∧
  ∀ i, i < j → ∃ u1 u2, u1 + u2 = u i ∧ bk w G1 a (k + 1) i (hp_r G1 n i) (fun l v => E i l v ∧ hx l &&& nI (2 ^ k) = 0) u1 ∧ bk w G1 a (k + 1) (i + 2 ^ k) (hp_r G1 n (i + 2 ^ k)) (fun l v => E i l v ∧ ¬ hx l &&& nI (2 ^ k) = 0) u2
/-- a bin has been split -/
def sq_P (w : WD) (G : GH) (a t n k i : Nat) (B : List Nat) (Lf : Nat → List Nat) (Vf : Nat → Nat) (G' : GH) : Prop :=
  bk w G' a (k + 1) i (hp_r G' n i) (fun l v => ∃ x, x ∈ fl k Lf B ∧ Lf x = l ∧ Vf x = v) (fl k Lf B).length ∧ bk w G' a (k + 1) (i + 2 ^ k) (hp_r G' n (i + 2 ^ k)) (fun l v => ∃ x, x ∈ fh k Lf B ∧ Lf x = l ∧ Vf x = v) (fh k Lf B).length ∧
  cf (fun x => x ∈ B ∨ x = n ∨ x = t) G G' ∧ (∀ j, j ≠ i → j ≠ i + 2 ^ k → hp_r G' n j = hp_r G n j) ∧ hp_l G' n = hp_l G n ∧ (∀ j, j ≠ i → hp_r G' t j = hp_r G t j)
theorem rz_I.step {n j : Nat} {E : Nat → List Nat → Nat → Prop} {u : Nat → Nat} {th : Int32} {G1 G2 : GH} {C : List Nat} {L : Nat → List Nat} {V : Nat → Nat} (h : rz_I w G a t n k E u th j G1) (ka : hp_kd G a = 23) (kt : hp_kd G t = 35) (qn : hp_kd G n = 0) (hk : k ≤ 10) (hj : j < 2 ^ k) (hC : hbn w G1 a k L V j C) (hE : ∀ l v, (∃ x, x ∈ C ∧ L x = l ∧ V x = v) ↔ E j l v) (hu : C.length = u j) (hs : sq_P w G1 a t n k j C L V G2) :
    rz_I w G a t n k E u th (j + 1) G2 := by
  obtain ⟨h1, ⟨h2, h3, h4⟩, ⟨h5, h6, h7⟩, h8, h9⟩ := h
  obtain ⟨s1, s2, s3, s4, s5, s6⟩ := hs
  have hd : ∀ x ∈ C, (24 ≤ hp_kd G1 x ∧ hp_kd G1 x ≤ 25) ∧ ow G1 x a ∧ hix k (hp_i G1 x 0) = j := fun x hx => by
    obtain ⟨⟨n1, n2, n3, n4, -⟩, n5⟩ := hC.2.1 x hx
    exact ⟨n1, n3, by rw [n4]; exact n5⟩
  have tn : t ≠ n := fun e => by rw [e, qn] at kt; cases kt
  have ka1 : hp_kd G1 a = 23 := by rw [h1.kd (by rw [ka]; decide)]; exact ka
  have kt1 : hp_kd G1 t = 35 := by rw [h1.kd (by rw [kt]; decide)]; exact kt
  have na : ¬ (a ∈ C ∨ a = n ∨ a = t) := by
    rintro (e | e | e)
    · have := (hd a e).1; rw [ka1] at this; omega
    · rw [e, qn] at ka; cases ka
    · rw [e, kt] at ka; cases ka
  have st2 : ∀ b m, st w G1 b m → st w G2 b m := fun b m v => st_cf s3 (fun x hx => by
    rcases hx with e | e | e
    · have := (hd x e).1; constructor <;> omega
    · rw [e, h2]; exact ⟨by decide, by decide⟩
    · rw [e, kt1]; exact ⟨by decide, by decide⟩) v
  have oth : ∀ i, i ≠ j → ∀ x, 24 ≤ hp_kd G1 x → hp_kd G1 x ≤ 25 → hix k (hp_i G1 x 0) = i → ¬ (x ∈ C ∨ x = n ∨ x = t) := by
    rintro i hi x hx1 hx2 hx3 (e | e | e)
    · exact hi (hx3.symm.trans (hd x e).2.2)
    · rw [e, h2] at hx2; omega
    · rw [e, kt1] at hx2; omega
  refine ⟨h1.tr2 s3 (fun x hx e => ?_), ⟨by rw [s3.kd (by rw [h2]; decide)]; exact h2, by rw [s3.ln (by rw [h2]; decide)]; exact h3, h4.cg s5⟩, ⟨by rw [s3.r (by rw [ka1]; decide) na]; exact h5, by rw [s3.i (by rw [ka1]; decide) na]; exact h6, by rw [s3.i (by rw [ka1]; decide) na]; exact h7⟩, fun i hi hi2 => ?_, fun i hi => ?_⟩
  · rcases e with e | e | e
    · obtain ⟨e1, e2, -⟩ := hd x e
      refine Classical.byContradiction fun no => no (Or.inr (Or.inr ⟨by rw [h1.kd hx] at e1; exact e1, e2.cg (h1.l hx no).symm⟩))
    · rw [e] at hx; exact absurd qn hx
    · exact Or.inr (Or.inl e)
  · obtain ⟨q1, q2, q3⟩ := h8 i (by omega) hi2
    have ne : i ≠ j := by omega
    refine ⟨?_, by rw [s4 i ne (by omega)]; exact q2, by rw [s4 _ (by omega) (by omega)]; exact q3⟩
    rw [s6 i ne]
    exact q1.fr s3 st2 (fun x hx1 hx2 _ hx3 => oth i ne x hx1 hx2 hx3)
  · by_cases e : i = j
    · subst e
      refine ⟨_, _, by rw [← hu]; exact fl_fh_len (k := k) (Lf := L) C, ?_, ?_⟩
      · obtain ⟨C1, L1, V1, c1, c2, c3, c4, c5⟩ := s1
        refine ⟨C1, L1, V1, c1, c2, c3, fun l v => ?_, c5⟩
        rw [c4]
        dsimp only
        rw [← hE]
        constructor
        · rintro ⟨x, hx, e1, e2⟩
          obtain ⟨p1, p2⟩ := fl_mem.1 hx
          exact ⟨⟨x, p1, e1, e2⟩, by rw [← e1]; exact p2⟩
        · rintro ⟨⟨x, hx, e1, e2⟩, p⟩
          exact ⟨x, fl_mem.2 ⟨hx, by rw [e1]; exact p⟩, e1, e2⟩
      · obtain ⟨C1, L1, V1, c1, c2, c3, c4, c5⟩ := s2
        refine ⟨C1, L1, V1, c1, c2, c3, fun l v => ?_, c5⟩
        rw [c4]
        dsimp only
        rw [← hE]
        constructor
        · rintro ⟨x, hx, e1, e2⟩
          obtain ⟨p1, p2⟩ := fh_mem.1 hx
          exact ⟨⟨x, p1, e1, e2⟩, by rw [← e1]; exact p2⟩
        · rintro ⟨⟨x, hx, e1, e2⟩, p⟩
          exact ⟨x, fh_mem.2 ⟨hx, by rw [e1]; exact p⟩, e1, e2⟩
    · obtain ⟨u1, u2, v1, v2, v3⟩ := h9 i (by omega)
      refine ⟨u1, u2, v1, ?_, ?_⟩
      · rw [s4 i e (by omega)]
        refine v2.fr s3 st2 (fun x hx1 hx2 _ hx3 => oth i e x hx1 hx2 ?_)
        rw [hix_half, hx3]
        exact Nat.mod_eq_of_lt (by omega)
      · rw [s4 _ (by omega) (by omega)]
        refine v3.fr s3 st2 (fun x hx1 hx2 _ hx3 => oth i e x hx1 hx2 ?_)
        rw [hix_half, hx3, Nat.add_mod_right]
        exact Nat.mod_eq_of_lt (by omega)
end
