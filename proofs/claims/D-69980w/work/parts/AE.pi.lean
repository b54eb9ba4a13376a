/-! putIn as a function -/
set_option maxRecDepth 100000
def pi_e1 (S : MS) (n : Nat) (out call : Int32) : MS := ml_sa (ml_sa (ml_sa (ml_sf S 50 (S.1 50 + 1)) 56 (jg_n (S.1 50)) (nI n)) 57 (jg_n (S.1 50)) out) 58 (jg_n (S.1 50)) call
def pi_e2 (S : MS) (x n : Nat) : MS := ml_sf (ml_sa (ml_sa (ml_sa S 59 x (S.1 51)) 60 x (S.1 52)) 61 x (S.1 54)) 52 (S.1 52 + S.2 17 n)
def pi_e3 (S : MS) (n : Nat) : MS := ml_sf S 54 (S.1 54 + S.2 16 n)
/-- a new instance of the node n -/
def pi_en (S : MS) (n : Nat) (out call : Int32) : MS := pi_e3 (pi_e2 (pi_e1 S n out call) (jg_n (S.1 50)) n) n
def pi_v (S : MS) (x : Int32) (i : Nat) : MS := ml_sa (ml_sf (ml_sa S 63 (jg_n (S.1 51)) x) 51 (S.1 51 + 1)) 64 (jg_n (S.1 51)) (nI i)
def pi_vs (x : Int32) : Nat → Nat → MS → MS
  | 0, _, S => S
  | m + 1, i, S => pi_vs x m (i + 1) (pi_v S x i)
def pi_m (S : MS) (e : Nat) : MS := if nx_s (S.2 32 e) = 0 then S else ml_sf S 53 (S.1 53 + nI (nx_s (S.2 32 e)))
def pi_es (rec : Nat → Int32 → Int32 → MS → Option MS) (x : Nat) : Nat → Nat → MS → Option MS
  | 0, _, S => some S
  | m + 1, e, S => if S.2 32 e = 3 then match rec (jg_n (S.2 33 e)) (nI x) (nI e) S with
      | none => none
      | some S1 => pi_es rec x m (e + 1) (ml_sa S1 62 (jg_n (S.2 61 x + S.2 37 e)) (S.1 50))
    else pi_es rec x m (e + 1) (pi_m S e)
def pi : Nat → Nat → Int32 → Int32 → MS → Option MS
  | 0, _, _, _, _ => none
  | f + 1, n, out, call, S => if S.1 51 + S.2 12 (n + 1) - S.2 12 n ≤ 6000 then pi_es (pi f) (jg_n (S.1 50)) (pn_hi S n - pn_lo S n) (pn_lo S n) (pi_vs (S.1 50) (jg_n (S.2 12 (n + 1)) - jg_n (S.2 12 n)) 0 (pi_en S n out call)) else none
/-- nothing but what is put in has changed -/
def pi_same (S S' : MS) : Prop := (∀ q, ¬ (50 ≤ q ∧ q ≤ 54) → S'.1 q = S.1 q) ∧ ∀ q, ¬ (56 ≤ q ∧ q ≤ 64) → S'.2 q = S.2 q
theorem pi_same.rf {S : MS} : pi_same S S := ⟨fun _ _ => rfl, fun _ _ => rfl⟩
theorem pi_same.tr {S S1 S2 : MS} (h : pi_same S S1) (h2 : pi_same S1 S2) : pi_same S S2 := ⟨fun q hq => (h2.1 q hq).trans (h.1 q hq), fun q hq => (h2.2 q hq).trans (h.2 q hq)⟩
theorem pi_same.sf {S : MS} {q : Nat} {v : Int32} (h : 50 ≤ q ∧ q ≤ 54) : pi_same S (ml_sf S q v) := ⟨fun k hk => by rw [ml_sf_f, if_neg (by omega)], fun _ _ => rfl⟩
theorem pi_same.sa {S : MS} {q j : Nat} {v : Int32} (h : 56 ≤ q ∧ q ≤ 64) : pi_same S (ml_sa S q j v) := ⟨fun _ _ => rfl, fun k hk => funext fun i => by rw [ml_sa_a, if_neg (by omega)]⟩
theorem pi_en_same {S : MS} {n : Nat} {out call : Int32} : pi_same S (pi_en S n out call) := by
  unfold pi_en pi_e3 pi_e2 pi_e1
  exact ((((((((pi_same.sf (by decide)).tr (pi_same.sa (by decide))).tr (pi_same.sa (by decide))).tr (pi_same.sa (by decide))).tr (pi_same.sa (by decide))).tr (pi_same.sa (by decide))).tr (pi_same.sa (by decide))).tr (pi_same.sf (by decide))).tr (pi_same.sf (by decide))
theorem pi_v_same {S : MS} {x : Int32} {i : Nat} : pi_same S (pi_v S x i) := ((pi_same.sa (by decide)).tr (pi_same.sf (by decide))).tr (pi_same.sa (by decide))
theorem pi_vs_same {x : Int32} : ∀ m i S, pi_same S (pi_vs x m i S) := by
  intro m
  induction m with
  | zero => intro i S; exact pi_same.rf
  | succ m ih => intro i S; exact pi_v_same.tr (ih _ _)
theorem pi_m_same {S : MS} {e : Nat} : pi_same S (pi_m S e) := by
  unfold pi_m
  split
  · exact pi_same.rf
  · exact pi_same.sf (by decide)
def vcn (S : MS) (n : Nat) : Nat := jg_n (S.2 12 (n + 1)) - jg_n (S.2 12 n)
def stn (S : MS) (n : Nat) : Nat := jg_n (S.2 17 n)
def kcn (S : MS) (n : Nat) : Nat := jg_n (S.2 16 n)
/-- the instances x0 .. x1 - 1: their variables, memories, calls one behind the other -/
def pr_R (S0 S : MS) (x0 x1 : Nat) (B M C : Nat → Nat) : Prop := ∀ x, x0 ≤ x → x < x1 → ∃ n, S.2 56 x = nI n ∧ n < pr_N S0 ∧ S.2 59 x = nI (B x) ∧ S.2 60 x = nI (M x) ∧ S.2 61 x = nI (C x) ∧ B (x + 1) = B x + vcn S0 n ∧ M (x + 1) = M x + stn S0 n ∧ C (x + 1) = C x + kcn S0 n ∧ ∀ i, i < vcn S0 n → S.2 63 (B x + i) = nI x ∧ S.2 64 (B x + i) = nI i
/-- the call e of the instance x is put in -/
def pr_kc (S0 S : MS) (x1 x e c : Nat) : Prop := ∃ y, x < y ∧ y < x1 ∧ S.2 62 (c + jg_n (S0.2 37 e)) = nI y ∧ S.2 56 y = S0.2 33 e ∧ S.2 57 y = nI x ∧ S.2 58 y = nI e
def pr_Q (S0 S : MS) (x0 x1 : Nat) (C : Nat → Nat) : Prop := ∀ x, x0 ≤ x → x < x1 → ∀ n, S.2 56 x = nI n → n < pr_N S0 → ∀ e, pn_lo S0 n ≤ e → e < pn_hi S0 n → S0.2 32 e = 3 → pr_kc S0 S x1 x e (C x)
/-- the instance x was put in by one from x0 on -/
def pr_up (S0 S : MS) (x0 x : Nat) : Prop := ∃ y e m, x0 ≤ y ∧ y < x ∧ S.2 57 x = nI y ∧ S.2 58 x = nI e ∧ S.2 56 y = nI m ∧ m < pr_N S0 ∧ pn_lo S0 m ≤ e ∧ e < pn_hi S0 m ∧ S0.2 32 e = 3 ∧ S.2 56 x = S0.2 33 e
def pr_U (S0 S : MS) (x0 x1 : Nat) : Prop := ∀ x, x0 < x → x < x1 → pr_up S0 S x0 x
/-- what stood below x, c, a stands -/
def pr_f (S S' : MS) (x c a : Nat) : Prop := (∀ q j, 56 ≤ q → q ≤ 61 → j < x → S'.2 q j = S.2 q j) ∧ (∀ j, j < c → S'.2 62 j = S.2 62 j) ∧ ∀ q j, q = 63 ∨ q = 64 → j < a → S'.2 q j = S.2 q j
theorem pr_f.rf {S : MS} {x c a : Nat} : pr_f S S x c a := ⟨fun _ _ _ _ _ => rfl, fun _ _ => rfl, fun _ _ _ _ => rfl⟩
theorem pr_f.tr {S S1 S2 : MS} {x c a x' c' a' : Nat} (h : pr_f S S1 x c a) (h2 : pr_f S1 S2 x' c' a') (hx : x ≤ x') (hc : c ≤ c') (ha : a ≤ a') : pr_f S S2 x c a :=
  ⟨fun q j h3 h4 h5 => (h2.1 q j h3 h4 (by omega)).trans (h.1 q j h3 h4 h5), fun j hj => (h2.2.1 j (by omega)).trans (h.2.1 j hj), fun q j hq hj => (h2.2.2 q j hq (by omega)).trans (h.2.2 q j hq hj)⟩
theorem pr_R.keep {S0 S S' : MS} {x0 x1 : Nat} {B M C : Nat → Nat} (h : pr_R S0 S x0 x1 B M C) (h1 : ∀ q j, 56 ≤ q → q ≤ 61 → j < x1 → S'.2 q j = S.2 q j) (h2 : ∀ q j, q = 63 ∨ q = 64 → j < B x1 → S'.2 q j = S.2 q j) (hB : ∀ x, x0 ≤ x → x < x1 → B (x + 1) ≤ B x1) : pr_R S0 S' x0 x1 B M C := by
  intro x a b
  obtain ⟨n, g1, g2, g3, g4, g5, g6, g7, g8, g9⟩ := h x a b
  have := hB x a b
  refine ⟨n, by rw [h1 56 x (by omega) (by omega) b]; exact g1, g2, by rw [h1 59 x (by omega) (by omega) b]; exact g3, by rw [h1 60 x (by omega) (by omega) b]; exact g4, by rw [h1 61 x (by omega) (by omega) b]; exact g5, g6, g7, g8, fun i hi => ?_⟩
  rw [h2 63 _ (by omega) (by omega), h2 64 _ (by omega) (by omega)]
  exact g9 i hi
theorem pr_R.mB {S0 S : MS} {x0 x1 : Nat} {B M C : Nat → Nat} (h : pr_R S0 S x0 x1 B M C) : ∀ m x, x0 ≤ x → x + m ≤ x1 → B x ≤ B (x + m) ∧ M x ≤ M (x + m) ∧ C x ≤ C (x + m) := by
  intro m
  induction m with
  | zero => intro x _ _; exact ⟨Nat.le_refl _, Nat.le_refl _, Nat.le_refl _⟩
  | succ m ih =>
    intro x a b
    obtain ⟨n, g1, g2, g3, g4, g5, g6, g7, g8, g9⟩ := h (x + m) (by omega) (by omega)
    have := ih x a (by omega)
    rw [← Nat.add_assoc]
    omega
theorem pr_kc.keep {S0 S S' : MS} {x0 x1 x2 x e c c1 : Nat} (h : pr_kc S0 S x1 x e c) (hx : x1 ≤ x2) (h1 : ∀ q j, 56 ≤ q → q ≤ 61 → j < x1 → S'.2 q j = S.2 q j) (h2 : S'.2 62 (c + jg_n (S0.2 37 e)) = S.2 62 (c + jg_n (S0.2 37 e))) : pr_kc S0 S' x2 x e c := by
  obtain ⟨y, y1, y2, y3, y4, y5, y6⟩ := h
  exact ⟨y, y1, by omega, by rw [h2]; exact y3, by rw [h1 56 y (by omega) (by omega) y2]; exact y4, by rw [h1 57 y (by omega) (by omega) y2]; exact y5, by rw [h1 58 y (by omega) (by omega) y2]; exact y6⟩
theorem pr_up.keep {S0 S S' : MS} {x0 x1 x x0' : Nat} (h : pr_up S0 S x0 x) (hx : x < x1) (hx0 : x0' ≤ x0) (h1 : ∀ q j, 56 ≤ q → q ≤ 61 → j < x1 → S'.2 q j = S.2 q j) : pr_up S0 S' x0' x := by
  obtain ⟨y, e, m, y1, y2, y3, y4, y5, y6, y7, y8, y9, y10⟩ := h
  exact ⟨y, e, m, by omega, y2, by rw [h1 57 x (by omega) (by omega) hx]; exact y3, by rw [h1 58 x (by omega) (by omega) hx]; exact y4, by rw [h1 56 y (by omega) (by omega) (by omega)]; exact y5, y6, y7, y8, y9, by rw [h1 56 x (by omega) (by omega) hx]; exact y10⟩
/-- two rows of instances, one behind the other -/
theorem pr_R.app {S0 S : MS} {x0 x1 x2 : Nat} {B M C B' M' C' : Nat → Nat} (h : pr_R S0 S x0 x1 B M C) (h2 : pr_R S0 S x1 x2 B' M' C') (hB : B x1 = B' x1) (hM : M x1 = M' x1) (hC : C x1 = C' x1) : pr_R S0 S x0 x2 (fun x => if x < x1 then B x else B' x) (fun x => if x < x1 then M x else M' x) (fun x => if x < x1 then C x else C' x) := by
  intro x a b
  show ∃ n, S.2 56 x = nI n ∧ n < pr_N S0 ∧ S.2 59 x = nI (if x < x1 then B x else B' x) ∧ S.2 60 x = nI (if x < x1 then M x else M' x) ∧ S.2 61 x = nI (if x < x1 then C x else C' x) ∧ (if x + 1 < x1 then B (x + 1) else B' (x + 1)) = (if x < x1 then B x else B' x) + vcn S0 n ∧ (if x + 1 < x1 then M (x + 1) else M' (x + 1)) = (if x < x1 then M x else M' x) + stn S0 n ∧ (if x + 1 < x1 then C (x + 1) else C' (x + 1)) = (if x < x1 then C x else C' x) + kcn S0 n ∧ ∀ i, i < vcn S0 n → S.2 63 ((if x < x1 then B x else B' x) + i) = nI x ∧ S.2 64 ((if x < x1 then B x else B' x) + i) = nI i
  rcases Nat.lt_or_ge x x1 with u | u
  · rw [if_pos u, if_pos u, if_pos u]
    obtain ⟨n, g1, g2, g3, g4, g5, g6, g7, g8, g9⟩ := h x a u
    refine ⟨n, g1, g2, g3, g4, g5, ?_, ?_, ?_, g9⟩
    · split
      · exact g6
      · have : x + 1 = x1 := by omega
        rw [← g6, this, hB]
    · split
      · exact g7
      · have : x + 1 = x1 := by omega
        rw [← g7, this, hM]
    · split
      · exact g8
      · have : x + 1 = x1 := by omega
        rw [← g8, this, hC]
  · rw [if_neg (by omega), if_neg (by omega), if_neg (by omega), if_neg (by omega), if_neg (by omega), if_neg (by omega)]
    exact h2 x u b
