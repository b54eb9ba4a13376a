/-! countParts as a sum -/
set_option maxRecDepth 100000
theorem cp_m_nI {y : Nat} (h : y < 2 ^ 30) : cp_m (nI y) = nI (min y 100000) := by
  unfold cp_m
  have e0 : (100000 : Int32) = nI 100000 := rfl
  rw [e0]
  by_cases u : y < 100000
  · rw [if_pos (nI_lt u (by omega)), Nat.min_eq_left (by omega)]
  · rw [if_neg (fun w => u ((nI_ltI (a := y) (b := 100000) (by omega) (by omega)).1 w)), Nat.min_eq_right (by omega)]
theorem cp_e_val {S : MS} {h : Nat → Nat} : ∀ M e y, (∀ x, e ≤ x → x < e + M → S.2 32 x = 3 → S.2 48 (S.2 33 x).toNatClampNeg = nI (min (h (jg_n (S.2 33 x))) 100000)) → cp_e S M e (nI (min y 100000)) = nI (min (y + ts_e h S M e) 100000) := by
  intro M
  induction M with
  | zero => intro e y _; rfl
  | succ M ih =>
    intro e y hh
    rw [cp_e, ts_e]
    by_cases u : S.2 32 e = 3
    · rw [if_pos u, if_pos u, hh e (Nat.le_refl _) (by omega) u, nI_add, cp_m_nI (by omega), show min (min y 100000 + min (h (jg_n (S.2 33 e))) 100000) 100000 = min (y + h (jg_n (S.2 33 e))) 100000 by omega, ih (e + 1) _ (fun x a b => hh x (by omega) (by omega)), Nat.add_assoc]
    · rw [if_neg u, if_neg u, ih (e + 1) _ (fun x a b => hh x (by omega) (by omega)), Nat.zero_add]
/-- what a node's own equations count -/
def own_p (S : MS) (n : Nat) : Nat := (jg_n (S.2 15 (n + 1)) - jg_n (S.2 15 n)) + (pn_hi S n - pn_lo S n)
theorem cp_all_val {T : Nat → Int32} {n f a a' i o q q' p p' l l' : Nat} {S : MS} {h : Nat → Nat} (hF : nf T n S f a a' i o q q' p p' l l') (hh : ∀ x, p ≤ x → x < p' → S.2 32 x = 3 → S.2 48 (S.2 33 x).toNatClampNeg = nI (min (h (jg_n (S.2 33 x))) 100000)) :
    cp_all S (q' - q) q 0 = nI (min (own_p S f + ts_e h S (p' - p) p) 100000) := by
  obtain ⟨l1, l2⟩ := nf_lohi hF
  obtain ⟨⟨a1, a2, a3, a4, a5, a6⟩, ⟨b1, b2, b3, b4, b5, b6, b7, b8, b9, b10, b11, b12, b13, b14⟩, ⟨P, L, ⟨c1, c2, c3, c4⟩, c5, c6⟩, d1, -⟩ := id hF
  have mP : ∀ k, q ≤ k → k < q' → P k < P (k + 1) := fun k a b => by
    obtain ⟨c, w, -⟩ := c6 k a b
    exact w.2.2.2.2.1
  have main : ∀ m k y, k + m = q' → q ≤ k → cp_all S m k (nI (min y 100000)) = nI (min (y + m + (p' - P k) + ts_e h S (p' - P k) (P k)) 100000) := by
    intro m
    induction m with
    | zero =>
      intro k y hk hq
      have ek : k = q' := by omega
      subst ek
      rw [c2, Nat.sub_self]
      rfl
    | succ m ih =>
      intro k y hk hq
      obtain ⟨c, hW, -⟩ := c6 k hq (by omega)
      obtain ⟨m1, m2, m3, m4⟩ := c5 k hq (by omega)
      have hlt := mP k hq (by omega)
      obtain ⟨w1, w2, w3, w4, w5, w6, w7, w8, w9, w10, w11, w12, w13⟩ := hW
      have w3 : S.2 29 k = nI (P k) := w3
      have w4 : S.2 27 k = nI (P (k + 1) - 1) := w4
      have w9 : lw (S.2 34) (P (k + 1) - 1) = P k := w9
      have e38 := (d1 (P (k + 1) - 1) (by omega) (by omega)).2.2
      rw [w9] at e38
      have eq : cp_q S k (nI (min y 100000)) = nI (min (y + 1 + (P (k + 1) - P k) + ts_e h S (P (k + 1) - P k) (P k)) 100000) := by
        rw [cp_q, w3, w4, jg_n, jg_n, nI_clamp (n := P k) (by omega), nI_clamp (n := P (k + 1) - 1) (by omega), e38, nI_1, nI_add, cp_m_nI (by omega), show P (k + 1) - 1 + 1 - P k = P (k + 1) - P k by omega, show min (min y 100000 + 1 + (P (k + 1) - P k)) 100000 = min (y + 1 + (P (k + 1) - P k)) 100000 by omega]
        exact cp_e_val _ _ _ (fun x x1 x2 => hh x (by omega) (by omega))
      have hP := mono_k mP (q' - (k + 1)) (k + 1) (by omega) (by omega)
      rw [show k + 1 + (q' - (k + 1)) = q' by omega, c2] at hP
      rw [cp_all, eq, ih (k + 1) _ (by omega) (by omega)]
      have ets : ts_e h S (p' - P k) (P k) = ts_e h S (P (k + 1) - P k) (P k) + ts_e h S (p' - P (k + 1)) (P (k + 1)) := by
        rw [show p' - P k = (P (k + 1) - P k) + (p' - P (k + 1)) by omega, ts_e_add, show P k + (P (k + 1) - P k) = P (k + 1) by omega]
      rw [ets]
      congr 2
      omega
  have h0 := main (q' - q) q 0 (by omega) (Nat.le_refl _)
  rw [c1] at h0
  have e0 : (0 : Int32) = nI (min 0 100000) := rfl
  rw [e0, h0]
  unfold own_p
  rw [l1, l2, a5, a6, jg_n, jg_n, nI_clamp (n := q) (by omega), nI_clamp (n := q') (by omega)]
  congr 2
  omega
/-! all nodes -/
def ac_f (A Q : Nat → Nat) (f : Nat) (S : MS) : MS := ml_sa (ar_all (A f) (Q (f + 1) - Q f) (Q f) S) 48 f (cp_all (ar_all (A f) (Q (f + 1) - Q f) (Q f) S) (Q (f + 1) - Q f) (Q f) 0)
def acs (A Q : Nat → Nat) : Nat → Nat → MS → MS
  | 0, _, S => S
  | m + 1, f, S => acs A Q m (f + 1) (ac_f A Q f S)
theorem ac_f_same {A Q : Nat → Nat} {f : Nat} {S : MS} (h : ar_same S (ar_all (A f) (Q (f + 1) - Q f) (Q f) S)) : ac_same S (ac_f A Q f S) :=
  h.ac.tr ⟨rfl, fun q hq => funext fun j => by rw [ac_f, ml_sa_a, if_neg (by omega)]⟩
/-- what is known of the nodes below f -/
def ac_I (S : MS) (A Q : Nat → Nat) (f : Nat) : Prop := (∀ g, g < f → ∀ k, Q g ≤ k → k < Q (g + 1) → fk S (A g) k) ∧ ∀ g, g < f → S.2 48 g = nI (min (ts (own_p S) S (g + 1) g) 100000)
theorem ts_cg {g : Nat → Nat} {S S' : MS} (h : ac_same S S') : ∀ f n, ts g S' f n = ts g S f n := by
  intro f
  induction f with
  | zero => intro n; rfl
  | succ f ih =>
    intro n
    have e1 : pn_lo S' n = pn_lo S n := by rw [pn_lo, pn_lo, h.2 29 (by omega), h.2 15 (by omega)]
    have e2 : pn_hi S' n = pn_hi S n := by rw [pn_hi, pn_hi, h.2 27 (by omega), h.2 15 (by omega)]
    rw [ts, ts, e1, e2, ts_e_cg (h.2 32 (by omega)) (h.2 33 (by omega)), ts_e_cg2 _ _ (fun x _ _ _ => ih _)]
theorem own_p_cg {S S' : MS} (h : ac_same S S') : own_p S' = own_p S := by
  funext n
  unfold own_p pn_lo pn_hi
  rw [h.2 15 (by omega), h.2 29 (by omega), h.2 27 (by omega)]
/-- a call's node -/
theorem nf_call {T : Nat → Int32} {n f a a' i o q q' p p' l l' e : Nat} {S : MS} (h : nf T n S f a a' i o q q' p p' l l') (h1 : p ≤ e) (h2 : e < p') : pw_s (vw S f) (S.2 32 e) (S.2 33 e) (kls S e).length ∧ p ≤ lw (S.2 34) e ∧ md_ch (S.2 35) (S.2 34 e) (kls S e) ∧ pw_k (lw (S.2 34)) (lw (S.2 34) e) (kls S e) e := by
  obtain ⟨⟨a1, a2, a3, a4, a5, a6⟩, ⟨b1, b2, b3, b4, b5, b6, b7, b8, b9, b10, b11, b12, b13, b14⟩, ⟨P, L, ⟨c1, c2, c3, c4⟩, c5, c6⟩, d1, -⟩ := id h
  obtain ⟨k, k1, k2, k3, k4⟩ := loc_k (P := P) (e := e) (q' - q) q (by rw [c1]; exact h1) (by rw [show q + (q' - q) = q' by omega, c2]; exact h2)
  obtain ⟨c, hW, -⟩ := c6 k k1 (by omega)
  obtain ⟨m1, m2, m3, m4⟩ := c5 k k1 (by omega)
  have w10 := hW.2.2.2.2.2.2.2.2.2.1
  obtain ⟨g1, g2, g3⟩ := (w10 e k3 k4).2.kl (by omega)
  have hlo := (w10 e k3 k4).1
  have hlo : P k ≤ lw (S.2 34) e := hlo
  exact ⟨g3, by omega, g1, g2⟩
theorem nf_callee {T : Nat → Int32} {n f a a' i o q q' p p' l l' e : Nat} {S : MS} (h : nf T n S f a a' i o q q' p p' l l') (h1 : p ≤ e) (h2 : e < p') (h3 : S.2 32 e = 3) : ∃ g, g < f ∧ S.2 33 e = nI g ∧ jg_n (S.2 33 e) = g ∧ 1 ≤ (kls S e).length := by
  have hf : f < 60 := h.2.1.2.2.2.2.2.2.1
  obtain ⟨hs, -⟩ := nf_call h h1 h2
  rcases hs with ⟨q, -⟩ | ⟨q, -⟩ | ⟨q, -⟩ | ⟨q, hl, g, g1, g2⟩ | ⟨q, m⟩ | ⟨q, r, m⟩ | ⟨q, r, m⟩ | ⟨q, m, -⟩
  · rw [q] at h3; exact absurd h3 (by decide)
  · rw [q] at h3; exact absurd h3 (by decide)
  · rw [q] at h3; exact absurd h3 (by decide)
  · rw [vw_N (by omega)] at g1
    exact ⟨g, g1, g2, by rw [g2, jg_n, nI_clamp (by omega)], hl⟩
  · rw [q] at h3; exact absurd h3 (by decide)
  · rw [h3] at q; exact absurd q (by decide)
  · rw [h3] at q; exact absurd q (by decide)
  · rw [q] at h3; exact absurd h3 (by decide)
/-- the fuel doesn't matter -/
theorem ts_fuel {T : Nat → Int32} {n : Nat} {S : MS} {A Q P L : Nat → Nat} {g : Nat → Nat} (hF : nfs T n S A Q P L) : ∀ f f' x, x < pr_N S → x < f → x < f' → ts g S f x = ts g S f' x := by
  intro f
  induction f with
  | zero => intro f' x _ h; omega
  | succ f ih =>
    intro f' x hx h1 h2
    cases f' with
    | zero => omega
    | succ f' =>
      obtain ⟨i, o, hn⟩ := hF.2.1 x hx
      obtain ⟨l1, l2⟩ := nf_lohi hn
      have hpp : P x ≤ P (x + 1) := hn.2.1.2.2.2.2.2.2.2.2.2.2.2.2.1
      rw [ts, ts, ts_e_cg2 _ _ (fun e e1 e2 e3 => ?_)]
      rw [l1] at e1 e2
      rw [l2] at e2
      obtain ⟨c, c1, c2, c3, -⟩ := nf_callee hn e1 (by omega) e3
      rw [c3]
      exact ih f' c (by omega) (by omega) (by omega)
