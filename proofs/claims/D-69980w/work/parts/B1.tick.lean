/-! tick of the reference -/
set_option maxRecDepth 100000
/-- so many instants -/
def tkl (N M I : Nat) : Nat → MS → MS
  | 0, σ => σ
  | f + 1, σ => tkl N M I f (ins σ N M I)
theorem tkl_2 {N M I q : Nat} (h : ¬ (74 ≤ q ∧ q ≤ 78)) : ∀ f σ, (tkl N M I f σ).2 q = σ.2 q := by
  intro f
  induction f with
  | zero => intro σ; rfl
  | succ f ih => intro σ; rw [tkl, ih, ins_2 h]
theorem tkl_1 {N M I q : Nat} (h : q ≠ 72) : ∀ f σ, (tkl N M I f σ).1 q = σ.1 q := by
  intro f
  induction f with
  | zero => intro σ; rfl
  | succ f ih => intro σ; rw [tkl, ih, ins_1, if_neg h]
theorem tkl_72 {N M I : Nat} : ∀ f σ j, σ.1 72 = nI j → (tkl N M I f σ).1 72 = nI (j + f) := by
  intro f
  induction f with
  | zero => intro σ j h; exact h
  | succ f ih =>
    intro σ j h
    rw [tkl, ih _ (j + 1) (by rw [ins_1, if_pos rfl, h, nI_1]), show j + 1 + f = j + (f + 1) by omega]
section
variable {z : MZ}
/-- a count that may not be -/
theorem X6_tick_bad {σ : MS} {c : Int32} {d : Nat} (hc : c < 1 ∨ ¬ c ≤ 1000) (hd : 2 ≤ d) : ml_C z mX6_tick d 0 [vR (some z.2.1), vI c] σ (fun u σ' _ => u = some (vI 0) ∧ σ' = ml_sf (ml_sf σ 2 0) 2 1) (fun _ _ _ => False) := by
  refine ml_C_of (by decide) rfl (Nat.le_of_ble_eq_true rfl) ?_
  have st : ∀ E, ml_V z mX6_tick (d, 0, (fun u σ' _ => u = some (vI 0) ∧ σ' = ml_sf (ml_sf σ 2 0) 2 1), fun _ _ _ => False) 19 [(0, vR (some z.2.1)), (1, vI c)] [vI 1, vR (some z.2.1)] (ml_sf σ 2 0) E 0 := fun E => by
    refine mbtick_19 (mbtick_24 (X6_refuse_1 (d := 1)) (by show 1 + 1 ≤ d; omega) (Nat.zero_le _) (ml_krv fun σ2 g => ?_) ml_no)
    subst g
    exact mbtick_27 (fun _ => mbtick_50 (fun G _ => ⟨rfl, rfl⟩)) (fun u => absurd u (by decide))
  refine mbtick_0 (fun _ => st _) (fun u => ?_)
  exact mbtick_12 (fun w => absurd w (hc.resolve_left u)) (fun _ => st _)
/-- nothing runs -/
theorem X6_tick_off {σ : MS} {c : Int32} {d : Nat} (h1 : ¬ c < 1) (h2 : c ≤ 1000) (h49 : ¬ 0 ≤ σ.1 49) (hd : 2 ≤ d) : ml_C z mX6_tick d 0 [vR (some z.2.1), vI c] σ (fun u σ' _ => u = some (vI 0) ∧ σ' = ml_sf (ml_sf σ 2 0) 2 2) (fun _ _ _ => False) := by
  refine ml_C_of (by decide) rfl (Nat.le_of_ble_eq_true rfl) ?_
  refine mbtick_0 (fun u => absurd u h1) (fun _ => ?_)
  refine mbtick_12 (fun _ => ?_) (fun u => absurd h2 u)
  refine mbtick_23 (mbtick_24 (X6_refuse_0 (d := 1)) (by show 1 + 1 ≤ d; omega) (Nat.zero_le _) (ml_krv fun σ2 g => ?_) ml_no)
  subst g
  refine mbtick_27 (fun u => absurd rfl u) (fun _ => ?_)
  refine mbtick_30 (fun u => absurd u h49) (fun _ => ?_)
  refine mbtick_39 (mbtick_44 (X6_refuse_1 (d := 1)) (by show 1 + 1 ≤ d; omega) (Nat.zero_le _) (ml_krv fun σ2 g => ?_) ml_no)
  subst g
  exact mbtick_47 (fun u => absurd u (by decide)) (fun _ => mbtick_50 (fun G _ => ⟨rfl, rfl⟩))
end
section
variable {z : MZ} {T : Nat → Int32} {n : Nat} {S : MS} {A Q P L B M C : Nat → Nat} {I : Nat}
theorem X6_tick_C (h : rw_K T n S A Q P L) (hI : rw_I S I B M C) {σ : MS} (hS : ∀ q, q ≤ 64 → σ.2 q = S.2 q) {d c : Nat} (h50 : σ.1 50 = nI I) (h51 : σ.1 51 = nI (B I)) (h52 : σ.1 52 = nI (M I)) (ho : ∀ i, i < B I → ∃ v, v < B I ∧ σ.2 70 i = nI v) (h49 : 0 ≤ σ.1 49) (h1 : 1 ≤ c) (h2 : c ≤ 1000) (hd : 67 ≤ d) : ml_C z mX6_tick d 0 [vR (some z.2.1), vI (nI c)] σ (fun u σ' _ => u = some (vI (σ'.1 72)) ∧ σ' = tkl (B I) (M I) I c (ml_sf σ 2 0)) (fun _ _ _ => False) := by
  refine ml_C_of (by decide) rfl (Nat.le_of_ble_eq_true rfl) ?_
  generalize hF : tkl (B I) (M I) I c (ml_sf σ 2 0) = F
  have loop : ∀ f j σ2 E, j + f = c → (∀ q, q ≤ 64 ∨ q = 70 → σ2.2 q = σ.2 q) → (∀ q, q = 50 ∨ q = 51 ∨ q = 52 → σ2.1 q = σ.1 q) → tkl (B I) (M I) I f σ2 = F → ml_V z mX6_tick (d, 0, (fun u σ' _ => u = some (vI (σ'.1 72)) ∧ σ' = F), fun _ _ _ => False) 54 [(0, vR (some z.2.1)), (1, vI (nI c)), (2, vI (nI j))] [] σ2 E 0 := by
    intro f
    induction f with
    | zero =>
      intro j σ2 E hj e1 e2 e3
      rw [Nat.add_zero] at hj
      subst hj
      exact mbtick_54 (fun _ => mbtick_69 (fun G _ => ⟨rfl, e3⟩)) (fun u => absurd (nI_le (Nat.le_refl _) (by omega)) u)
    | succ f ih =>
      intro j σ2 E hj e1 e2 e3
      refine mbtick_54 (fun u => absurd u (Int32.not_le.2 (nI_lt (by omega) (by omega)))) (fun _ => ?_)
      refine mbtick_59 (d' := 66) (b' := 0) (X6_instant_C h hI (fun q hq => by rw [e1 q (Or.inl hq)]; exact hS q hq) (by rw [e2 50 (by omega)]; exact h50) (by rw [e2 51 (by omega)]; exact h51) (by rw [e2 52 (by omega)]; exact h52) (fun i hi => by rw [e1 70 (Or.inr rfl)]; exact ho i hi) (Nat.le_refl _)) (by show 66 + 1 ≤ d; omega) (Nat.zero_le _) (ml_kr0 fun σ3 g => ?_) ml_no
      subst g
      refine mbtick_63 ?_
      rw [nI_1]
      refine ih (j + 1) _ _ (by omega) (fun q hq => by rw [ins_2 (by omega)]; exact e1 q hq) (fun q hq => by rw [ins_1, if_neg (by omega)]; exact e2 q hq) e3
  have g1 : ¬ nI c < 1 := Int32.not_lt.2 (show nI 1 ≤ nI c from nI_le h1 (by omega))
  have g2 : nI c ≤ 1000 := show nI c ≤ nI 1000 from nI_le h2 (by omega)
  refine mbtick_0 (fun u => absurd u g1) (fun _ => ?_)
  refine mbtick_12 (fun _ => ?_) (fun u => absurd g2 u)
  refine mbtick_23 (mbtick_24 (X6_refuse_0 (d := 1)) (by show 1 + 1 ≤ d; omega) (Nat.zero_le _) (ml_krv fun σ2 g => ?_) ml_no)
  subst g
  refine mbtick_27 (fun u => absurd rfl u) (fun _ => ?_)
  refine mbtick_30 (fun _ => ?_) (fun u => absurd h49 u)
  refine mbtick_43 (mbtick_44 (X6_refuse_0 (d := 1)) (by show 1 + 1 ≤ d; omega) (Nat.zero_le _) (ml_krv fun σ2 g => ?_) ml_no)
  subst g
  refine mbtick_47 (fun _ => ?_) (fun u => absurd rfl u)
  refine mbtick_52 ?_
  rw [show (0 : Int32) = nI 0 from rfl]
  exact loop c 0 _ _ (Nat.zero_add _) (fun q _ => rfl) (fun q hq => by rw [ml_sf_f, if_neg (by omega)]) hF
end
