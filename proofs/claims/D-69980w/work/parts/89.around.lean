/-! around as a function -/
set_option maxRecDepth 100000
def ar_l (a l k : Nat) : Nat → Nat → MS → MS
  | 0, _, S => S
  | m + 1, i, S => ar_l a l k m (i + 1) (ml_sa (ml_sa S 46 (a + jg_v S i) (nI k)) 47 (a + jg_v S i) (nI (i - l)))
def ar_o (S : MS) (a e : Nat) : Int32 := if S.2 32 e = 26 then S.2 22 (a + (S.2 33 e).toNatClampNeg / 2) else S.2 43 e
def ar_x (S : MS) (a e x : Nat) : MS := ml_sa S 43 x (if S.2 36 x = -2 then ar_o S a e else S.2 36 x)
def ar_y (S : MS) (e x i : Nat) : MS := ml_sa S 44 x (if S.2 32 e = 24 ∨ S.2 32 e = 3 ∨ S.2 32 e = 6 ∧ i = 1 then nI x else S.2 44 e)
def ar_k (a e : Nat) : List Nat → Nat → MS → MS
  | [], _, S => S
  | x :: xs, i, S => ar_k a e xs (i + 1) (ar_y (ar_x S a e x) e x i)
def ar_e (a p : Nat) : Nat → MS → MS
  | 0, S => S
  | m + 1, S => ar_e a p m (ar_k a (p + m) (kls S (p + m)) 0 S)
def ar_w : Nat → Nat → MS → MS
  | 0, _, S => S
  | m + 1, e, S => ar_w m (e + 1) (ml_sa S 45 e (if S.2 34 e < 0 then nI e else S.2 45 (S.2 34 e).toNatClampNeg))
def ar_b (S : MS) (a b l : Nat) : MS := ml_sa (ml_sa S 43 b (if S.2 36 b = -2 then S.2 22 (a + jg_v S l) else S.2 36 b)) 44 b (nI b)
def ar_q0 (a k p b l m : Nat) (S : MS) : MS := ar_w (b + 1 - p) p (ar_e a p (b + 1 - p) (ar_b (ar_l a l k m l S) a b l))
def ar_q (a k : Nat) (S : MS) : MS := ar_q0 a k (jg_n (S.2 29 k)) (jg_n (S.2 27 k)) (jg_n (S.2 26 k)) (jg_n (S.2 26 (k + 1)) - jg_n (S.2 26 k)) S
def ar_all (a : Nat) : Nat → Nat → MS → MS
  | 0, _, S => S
  | m + 1, k, S => ar_all a m (k + 1) (ar_q a k S)
/-- what around doesn't touch -/
def ar_same (S S' : MS) : Prop := S'.1 = S.1 ∧ ∀ q, ¬ (43 ≤ q ∧ q ≤ 47) → S'.2 q = S.2 q
theorem ar_same.rf {S : MS} : ar_same S S := ⟨rfl, fun _ _ => rfl⟩
theorem ar_same.tr {S S1 S2 : MS} (h : ar_same S S1) (h2 : ar_same S1 S2) : ar_same S S2 := ⟨h2.1.trans h.1, fun q hq => (h2.2 q hq).trans (h.2 q hq)⟩
theorem ar_same.sa {S : MS} {q j : Nat} {v : Int32} (hq : 43 ≤ q ∧ q ≤ 47) : ar_same S (ml_sa S q j v) := ⟨rfl, fun k hk => funext fun i => by rw [ml_sa_a, if_neg (by omega)]⟩
theorem ar_x_same {S : MS} {a e x : Nat} : ar_same S (ar_x S a e x) := ar_same.sa (by decide)
theorem ar_y_same {S : MS} {e x i : Nat} : ar_same S (ar_y S e x i) := ar_same.sa (by decide)
theorem ar_b_same {S : MS} {a b l : Nat} : ar_same S (ar_b S a b l) := (ar_same.sa (by decide)).tr (ar_same.sa (by decide))
/-- what around asks of an equation -/
def ar_H (S : MS) (a k p b l m : Nat) : Prop := S.2 29 k = nI p ∧ S.2 27 k = nI b ∧ S.2 26 k = nI l ∧ S.2 26 (k + 1) = nI (l + m) ∧ 1 ≤ m ∧ p ≤ b ∧ b < 5000 ∧ l + m < 5000 ∧ k < 5000 ∧ (∀ j, l ≤ j → j < l + m → ∃ x, S.2 28 j = nI x ∧ a + x < 6000) ∧
  ∀ e, p ≤ e → e ≤ b → md_ch (S.2 35) (S.2 34 e) (kls S e) ∧ (∀ x ∈ kls S e, p ≤ x ∧ x < e) ∧ (S.2 32 e = 26 → ∃ w, S.2 33 e = nI w ∧ a + w / 2 < 6000)
theorem kls_same {S S' : MS} (h : ar_same S S') (e : Nat) : kls S' e = kls S e := by
  unfold kls
  rw [h.2 34 (by omega), h.2 35 (by omega)]
theorem ar_H.same {S S' : MS} {a k p b l m : Nat} (h : ar_H S a k p b l m) (hs : ar_same S S') : ar_H S' a k p b l m := by
  unfold ar_H
  rw [hs.2 29 (by omega), hs.2 27 (by omega), hs.2 26 (by omega), hs.2 28 (by omega), hs.2 35 (by omega), hs.2 34 (by omega), hs.2 32 (by omega), hs.2 33 (by omega)]
  obtain ⟨h1, h2, h3, h4, h5, h6, h7, h8, h9, h10, h11⟩ := h
  refine ⟨h1, h2, h3, h4, h5, h6, h7, h8, h9, h10, fun e q1 q2 => ?_⟩
  rw [kls_same hs]
  exact h11 e q1 q2
theorem ar_l_same {a l k : Nat} : ∀ m i S, ar_same S (ar_l a l k m i S) := by
  intro m
  induction m with
  | zero => intro i S; exact ar_same.rf
  | succ m ih =>
    intro i S
    exact ((ar_same.sa (by decide)).tr (ar_same.sa (by decide))).tr (ih _ _)
theorem ar_k_same {a e : Nat} : ∀ xs i S, ar_same S (ar_k a e xs i S) := by
  intro xs
  induction xs with
  | nil => intro i S; exact ar_same.rf
  | cons x xs ih =>
    intro i S
    exact (ar_x_same.tr ar_y_same).tr (ih _ _)
theorem ar_e_same {a p : Nat} : ∀ m S, ar_same S (ar_e a p m S) := by
  intro m
  induction m with
  | zero => intro S; exact ar_same.rf
  | succ m ih => intro S; exact (ar_k_same _ _ _).tr (ih _)
theorem ar_w_same : ∀ m e S, ar_same S (ar_w m e S) := by
  intro m
  induction m with
  | zero => intro e S; exact ar_same.rf
  | succ m ih => intro e S; exact (ar_same.sa (by decide)).tr (ih _ _)
theorem ar_q_same {a k : Nat} {S : MS} : ar_same S (ar_q a k S) := (((ar_l_same _ _ _).tr ar_b_same).tr (ar_e_same _ _)).tr (ar_w_same _ _ _)
section
variable {z : MZ} {jm : MJ} {σ : MS} {a f k p b l m : Nat} {E : GH → Prop}
/-- the left sides -/
theorem around_l (hf : f < 60) (h12 : σ.2 12 f = nI a) (hH : ar_H σ a k p b l m) (K : ∀ E, ml_V z mX6_around jm 101 [(0, vR (some z.2.1)), (1, vI (nI f)), (2, vI (nI k)), (3, vI (nI b))] [] (ar_l a l k m l σ) E jm.2.1) : ∀ M i σ1 E, i + M = l + m → l ≤ i → ar_same σ σ1 → ar_l a l k M i σ1 = ar_l a l k m l σ → ml_V z mX6_around jm 34 [(0, vR (some z.2.1)), (1, vI (nI f)), (2, vI (nI k)), (3, vI (nI b)), (4, vI (nI i))] [] σ1 E jm.2.1 := by
  intro M
  induction M with
  | zero =>
    intro i σ1 E hi hl hs he
    obtain ⟨h1, h2, h3, h4, h5, h6, h7, h8, h9, h10, h11⟩ := hH.same hs
    have e4 : σ1.2 26 (nI k + 1).toNatClampNeg = nI (l + m) := by rw [nI_1, nI_clamp (by omega), h4]
    have he' : σ1 = ar_l a l k m l σ := he
    refine mbaround_34 (by rw [nI_1]; exact vp_in_nI (by omega) (by decide)) (fun _ => by rw [he']; exact K _) (fun q => absurd (by rw [e4]; exact (nI_leI (by omega) (by omega)).2 (by omega)) q)
  | succ M ih =>
    intro i σ1 E hi hl hs he
    obtain ⟨h1, h2, h3, h4, h5, h6, h7, h8, h9, h10, h11⟩ := hH.same hs
    have e4 : σ1.2 26 (nI k + 1).toNatClampNeg = nI (l + m) := by rw [nI_1, nI_clamp (by omega), h4]
    obtain ⟨x, hx1, hx2⟩ := h10 i hl (by omega)
    have ex : σ1.2 12 (nI f).toNatClampNeg + σ1.2 28 (nI i).toNatClampNeg = nI (a + x) := by rw [nI_clamp (n := f) (by omega), nI_clamp (n := i) (by omega), hx1, hs.2 12 (by omega), h12, nI_add]
    have ev : jg_v σ1 i = x := by rw [jg_v, hx1, nI_clamp (by omega)]
    refine mbaround_34 (by rw [nI_1]; exact vp_in_nI (by omega) (by decide)) (fun q => by
      rw [e4] at q
      exact absurd ((nI_leI (by omega) (by omega)).1 q) (by omega)) (fun _ => ?_)
    refine mbaround_47 (vp_in_nI (by omega) (by decide)) (vp_in_nI (by omega) (by decide)) (by rw [ex]; exact vp_in_nI (by omega) (by decide)) (vp_in_nI (by omega) (by decide)) ?_
    rw [ex, nI_clamp (n := a + x) (by omega), nI_clamp (n := k) (by omega), h3, pk_sub hl, nI_1, ← ev]
    exact ih (i + 1) _ _ (by omega) (by omega) (hs.tr ((ar_same.sa (by decide)).tr (ar_same.sa (by decide)))) he
end
