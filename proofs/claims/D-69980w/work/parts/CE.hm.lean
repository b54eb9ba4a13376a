/-! HashMap of Strings: what its heap is -/
set_option maxRecDepth 100000
/-- the hash that a map takes of a word -/
def hx (l : List Nat) : Int32 := hsh l ^^^ ((hsh l).toUInt32 >>> ((16 : Int32).toUInt32 &&& Int32.toUInt32 31)).toInt32
/-- its bin of 2 ^ k -/
def hix (k : Nat) (h : Int32) : Nat := h.toBitVec.toNat % 2 ^ k
/-- how two words are compared -/
def cmpI : List Nat → List Nat → Int32
  | [], m => nI 0 - nI m.length
  | l, [] => nI l.length - nI 0
  | a :: l, b :: m => if a = b then cmpI l m else nI a - nI b
/-- the order of a tree of words -/
def kl (l m : List Nat) : Prop := hx l < hx m ∨ (hx l = hx m ∧ cmpI l m < 0)
/-- a node of the map a: its word, its value -/
def hn (w : WD) (G : GH) (a x : Nat) (l : List Nat) (v : Nat) : Prop := (24 ≤ hp_kd G x ∧ hp_kd G x ≤ 25) ∧ hp_A w x ∧ ow G x a ∧ hp_i G x 0 = hx l ∧ (∃ key, hp_r G x 1 = some key ∧ st w G key l) ∧ hp_r G x 2 = some v ∧ hp_kd G v ≠ 0 ∧ hp_kd G v < 28
/-- a chain of nodes, onward -/
def hch (G : GH) : Option Nat → List Nat → Prop
  | p, [] => p = none
  | p, x :: xs => p = some x ∧ hch G (hp_r G x 3) xs
/-- the same chain, backward -/
def hpv (G : GH) : Option Nat → List Nat → Prop
  | _, [] => True
  | p, x :: xs => hp_r G x 7 = p ∧ hpv G (some x) xs
/-- a node of a tree; each has a place and the range of places below it -/
def tn (G : GH) (N : List Nat) (ps lo hi : Nat → Nat) (a : Nat) : Prop := hp_kd G a = 25 ∧ (lo a < ps a ∧ ps a < hi a) ∧
  (∀ b, hp_r G a 5 = some b → b ∈ N ∧ hp_r G b 4 = some a ∧ lo b = lo a ∧ hi b = ps a) ∧ (∀ b, hp_r G a 6 = some b → b ∈ N ∧ hp_r G b 4 = some a ∧ lo b = ps a ∧ hi b = hi a) ∧ (∀ b, hp_r G a 4 = some b → b ∈ N ∧ (hp_r G b 5 = some a ∨ hp_r G b 6 = some a))
/-- the tree of the nodes N with the root r -/
def tr (G : GH) (N : List Nat) (r : Nat) (ps lo hi : Nat → Nat) : Prop := (r ∈ N ∧ hp_r G r 4 = none ∧ ∀ a ∈ N, hp_r G a 4 = none → a = r) ∧ ∀ a ∈ N, tn G N ps lo hi a
/-- places go as words do -/
def tro (Lf : Nat → List Nat) (N : List Nat) (ps : Nat → Nat) : Prop := ∀ a ∈ N, ∀ b ∈ N, (ps a < ps b → kl (Lf a) (Lf b)) ∧ (ps a = ps b → a = b)
/-- a bin's tree -/
def tbn (G : GH) (Lf : Nat → List Nat) (B : List Nat) : Prop := ∃ r xs ps lo hi, B = r :: xs ∧ hpv G none B ∧ tr G B r ps lo hi ∧ tro Lf B ps
/-- a bin -/
def hbn (w : WD) (G : GH) (a k : Nat) (Lf : Nat → List Nat) (Vf : Nat → Nat) (i : Nat) (B : List Nat) : Prop := B.Nodup ∧ (∀ x ∈ B, hn w G a x (Lf x) (Vf x) ∧ hix k (hx (Lf x)) = i) ∧ ((∀ x ∈ B, hp_kd G x = 24) ∨ tbn G Lf B)
/-- a map's table t of 2 ^ k bins -/
def htb (w : WD) (G : GH) (a t k : Nat) (Lf : Nat → List Nat) (Vf : Nat → Nat) (B : Nat → List Nat) : Prop := hp_kd G t = 35 ∧ hp_A w t ∧ ow G t a ∧ hp_ln G t = 2 ^ k ∧ (∀ i, i < 2 ^ k → hch G (hp_r G t i) (B i) ∧ hbn w G a k Lf Vf i (B i)) ∧ ∀ i j x y, i < 2 ^ k → j < 2 ^ k → x ∈ B i → y ∈ B j → Lf x = Lf y → x = y
/-- the map a has s entries: m -/
def hm (w : WD) (G : GH) (a s : Nat) (m : List Nat → Option Nat) : Prop := (hp_kd G a = 23 ∧ hp_A w a ∧ hp_i G a 4 = nI s ∧ s < 2 ^ 16) ∧
  ((hp_r G a 2 = none ∧ hp_i G a 6 = 0 ∧ s = 0 ∧ ∀ l, m l = none) ∨ ∃ t k Lf Vf B, hp_r G a 2 = some t ∧ htb w G a t k Lf Vf B ∧ 4 ≤ k ∧ k ≤ 8 ∧ hp_i G a 6 = nI (3 * 2 ^ (k - 2)) ∧ sg (fun i => (B i).length) (2 ^ k) 0 ≤ s ∧ ∀ l v, m l = some v ↔ ∃ x, x ∈ B (hix k (hx l)) ∧ Lf x = l ∧ Vf x = v)
/-- the cells of a map -/
def hm_o (G : GH) (a x : Nat) : Prop := x = a ∨ (ow G x a ∧ (hp_kd G x = 35 ∨ hp_kd G x = 24 ∨ hp_kd G x = 25))
section
variable {w : WD} {G G' : GH}
theorem hch.fr : ∀ (xs : List Nat) (p : Option Nat), (∀ x ∈ xs, hp_r G' x = hp_r G x) → hch G p xs → hch G' p xs
  | [], _, _, h => h
  | x :: xs, _, h0, h => ⟨h.1, by rw [h0 x List.mem_cons_self]; exact hch.fr xs _ (fun y hy => h0 y (List.mem_cons_of_mem _ hy)) h.2⟩
theorem hpv.fr : ∀ (xs : List Nat) (p : Option Nat), (∀ x ∈ xs, hp_r G' x = hp_r G x) → hpv G p xs → hpv G' p xs
  | [], _, _, h => h
  | x :: xs, _, h0, h => ⟨by rw [h0 x List.mem_cons_self]; exact h.1, hpv.fr xs _ (fun y hy => h0 y (List.mem_cons_of_mem _ hy)) h.2⟩
theorem tn.fr {N : List Nat} {ps lo hi : Nat → Nat} {a : Nat} (h : tn G N ps lo hi a) (ha : a ∈ N) (h0 : ∀ x ∈ N, hp_kd G' x = hp_kd G x ∧ hp_r G' x = hp_r G x) : tn G' N ps lo hi a := by
  obtain ⟨h1, h2, h3, h4, h5⟩ := h
  refine ⟨by rw [(h0 a ha).1]; exact h1, h2, fun b hb => ?_, fun b hb => ?_, fun b hb => ?_⟩
  · rw [(h0 a ha).2] at hb
    obtain ⟨q1, q2, q3⟩ := h3 b hb
    exact ⟨q1, by rw [(h0 b q1).2]; exact q2, q3⟩
  · rw [(h0 a ha).2] at hb
    obtain ⟨q1, q2, q3⟩ := h4 b hb
    exact ⟨q1, by rw [(h0 b q1).2]; exact q2, q3⟩
  · rw [(h0 a ha).2] at hb
    obtain ⟨q1, q2⟩ := h5 b hb
    exact ⟨q1, by rw [(h0 b q1).2]; exact q2⟩
theorem tr.fr {N : List Nat} {r : Nat} {ps lo hi : Nat → Nat} (h : tr G N r ps lo hi) (h0 : ∀ x ∈ N, hp_kd G' x = hp_kd G x ∧ hp_r G' x = hp_r G x) : tr G' N r ps lo hi := by
  obtain ⟨⟨h1, h2, h3⟩, h4⟩ := h
  exact ⟨⟨h1, by rw [(h0 r h1).2]; exact h2, fun a ha e => h3 a ha (by rw [← (h0 a ha).2]; exact e)⟩, fun a ha => (h4 a ha).fr ha h0⟩
theorem hn.fr {own : Nat → Prop} {a x v : Nat} {l : List Nat} (h : hn w G a x l v) (hf : cf own G G') (hst : ∀ b m, st w G b m → st w G' b m) (ho : ¬ own x) : hn w G' a x l v := by
  obtain ⟨h1, h2, h3, h4, ⟨key, h5, h6⟩, h7, h8, h9⟩ := h
  have kx : hp_kd G x ≠ 0 := by omega
  exact ⟨by rw [hf.kd kx]; exact h1, h2, h3.cg (hf.l kx ho), by rw [hf.i kx ho]; exact h4, ⟨key, by rw [hf.r kx ho]; exact h5, hst _ _ h6⟩, by rw [hf.r kx ho]; exact h7, hf.ne h8, by rw [hf.kd h8]; exact h9⟩
theorem hbn.fr {own : Nat → Prop} {a k i : Nat} {Lf : Nat → List Nat} {Vf : Nat → Nat} {B : List Nat} (h : hbn w G a k Lf Vf i B) (hf : cf own G G') (hst : ∀ b m, st w G b m → st w G' b m) (ho : ∀ x, ow G x a → (hp_kd G x = 35 ∨ hp_kd G x = 24 ∨ hp_kd G x = 25) → ¬ own x) : hbn w G' a k Lf Vf i B := by
  obtain ⟨h1, h2, h3⟩ := h
  have hno : ∀ x ∈ B, ¬ own x := fun x hx => ho x (h2 x hx).1.2.2.1 (by have := (h2 x hx).1.1; omega)
  have hk : ∀ x ∈ B, hp_kd G x ≠ 0 := fun x hx => by have := (h2 x hx).1.1; omega
  have h0 : ∀ x ∈ B, hp_kd G' x = hp_kd G x ∧ hp_r G' x = hp_r G x := fun x hx => ⟨hf.kd (hk x hx), hf.r (hk x hx) (hno x hx)⟩
  refine ⟨h1, fun x hx => ⟨(h2 x hx).1.fr hf hst (hno x hx), (h2 x hx).2⟩, ?_⟩
  rcases h3 with h3 | ⟨r, xs, ps, lo, hi, e, p1, p2, p3⟩
  · exact Or.inl fun x hx => by rw [(h0 x hx).1]; exact h3 x hx
  · exact Or.inr ⟨r, xs, ps, lo, hi, e, hpv.fr _ _ (fun x hx => (h0 x hx).2) p1, p2.fr h0, p3⟩
theorem htb.fr {own : Nat → Prop} {a t k : Nat} {Lf : Nat → List Nat} {Vf : Nat → Nat} {B : Nat → List Nat} (h : htb w G a t k Lf Vf B) (hf : cf own G G') (hst : ∀ b m, st w G b m → st w G' b m) (ho : ∀ x, ow G x a → (hp_kd G x = 35 ∨ hp_kd G x = 24 ∨ hp_kd G x = 25) → ¬ own x) : htb w G' a t k Lf Vf B := by
  obtain ⟨h1, h2, h3, h4, h5, h6⟩ := h
  have kt : hp_kd G t ≠ 0 := by rw [h1]; decide
  have nt := ho t h3 (Or.inl h1)
  refine ⟨hf.k h1 (by decide), h2, h3.cg (hf.l kt nt), (hf.ln kt).trans h4, fun i hi => ?_, h6⟩
  obtain ⟨c1, c2⟩ := h5 i hi
  refine ⟨?_, c2.fr hf hst ho⟩
  rw [hf.r kt nt]
  refine hch.fr _ _ (fun x hx => ?_) c1
  have kx := (c2.2.1 x hx).1.1
  exact hf.r (by omega) (ho x (c2.2.1 x hx).1.2.2.1 (by omega))
theorem hm.fr {own : Nat → Prop} {a s : Nat} {m : List Nat → Option Nat} (h : hm w G a s m) (hf : cf own G G') (hst : ∀ b m, st w G b m → st w G' b m) (h1 : ¬ own a) (ho : ∀ x, ow G x a → (hp_kd G x = 35 ∨ hp_kd G x = 24 ∨ hp_kd G x = 25) → ¬ own x) : hm w G' a s m := by
  obtain ⟨⟨k1, k2, k3, k4⟩, h5⟩ := h
  have ka : hp_kd G a ≠ 0 := by rw [k1]; decide
  refine ⟨⟨hf.k k1 (by decide), k2, by rw [hf.i ka h1]; exact k3, k4⟩, ?_⟩
  rw [hf.r ka h1, hf.i ka h1]
  rcases h5 with h5 | ⟨t, k, Lf, Vf, B, b1, b2, b3⟩
  · exact Or.inl h5
  · exact Or.inr ⟨t, k, Lf, Vf, B, b1, b2.fr hf hst ho, b3⟩
theorem hix_lt {k : Nat} {h : Int32} : hix k h < 2 ^ k := Nat.mod_lt _ (Nat.two_pow_pos k)
/-- the bin as the table's place -/
theorem hix_and {k : Nat} {h : Int32} (hk : k ≤ 20) : (nI (2 ^ k) - 1) &&& h = nI (hix k h) := by
  have h2 : 2 ^ k ≤ 2 ^ 20 := Nat.pow_le_pow_right (by decide) hk
  have h1 : 0 < 2 ^ k := Nat.two_pow_pos k
  have e : nI (2 ^ k) - 1 = nI (2 ^ k - 1) := by
    show nI (2 ^ k) - nI 1 = _
    exact pk_sub h1
  rw [e, Int32.and_comm]
  exact pk_and h k (pk_tn (by omega))
end
