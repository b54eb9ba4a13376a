/-! an order of the variables, or a cycle: the plain law -/
set_option maxRecDepth 100000
theorem php : ∀ N (f : Nat → Nat), (∀ i, i ≤ N → f i < N) → ∃ i j, i < j ∧ j ≤ N ∧ f i = f j := by
  intro N
  induction N with
  | zero => intro f h; exact absurd (h 0 (Nat.le_refl 0)) (Nat.not_lt_zero _)
  | succ N ih =>
    intro f h
    by_cases u : ∃ i, i ≤ N ∧ f i = f (N + 1)
    · obtain ⟨i, i1, i2⟩ := u
      exact ⟨i, N + 1, by omega, Nat.le_refl _, i2⟩
    · have hne : ∀ i, i ≤ N → f i ≠ f (N + 1) := fun i hi w => u ⟨i, hi, w⟩
      have hc := h (N + 1) (Nat.le_refl _)
      obtain ⟨i, j, i1, i2, i3⟩ := ih (fun i => if f i = N then f (N + 1) else f i) (fun i hi => by
        have := h i (by omega)
        have := hne i hi
        show (if f i = N then f (N + 1) else f i) < N
        split <;> omega)
      have i3 : (if f i = N then f (N + 1) else f i) = (if f j = N then f (N + 1) else f j) := i3
      refine ⟨i, j, i1, by omega, ?_⟩
      have h1 := hne i (by omega)
      have h2 := hne j (by omega)
      split at i3
      · split at i3
        · omega
        · exact absurd i3.symm h2
      · split at i3
        · exact absurd i3 h1
        · exact i3
def itn (g : Nat → Nat) : Nat → Nat → Nat
  | 0, x => x
  | i + 1, x => g (itn g i x)
/-- who waits for one who waits is on a cycle, or one of them is -/
theorem cyc_ex {N : Nat} {E : Nat → List Nat} {p : Nat → Prop} (hp : ∀ u, p u → u < N) (hn : ∀ u, p u → ∃ w ∈ E u, p w) {u0 : Nat} (h0 : p u0) : ∃ u, p u ∧ rch E u u := by
  have hex : ∃ g : Nat → Nat, ∀ u, p u → g u ∈ E u ∧ p (g u) := by
    have h1 : ∀ u, ∃ w, p u → w ∈ E u ∧ p w := fun u => by
      rcases Classical.em (p u) with h | h
      · obtain ⟨w, w1, w2⟩ := hn u h
        exact ⟨w, fun _ => ⟨w1, w2⟩⟩
      · exact ⟨0, fun q => absurd q h⟩
    exact ⟨fun u => Classical.choose (h1 u), fun u h => Classical.choose_spec (h1 u) h⟩
  obtain ⟨g, hg⟩ := hex
  have hi : ∀ i, p (itn g i u0) := by
    intro i
    induction i with
    | zero => exact h0
    | succ i ih => exact (hg _ ih).2
  have hr : ∀ k i, rn E k (itn g i u0) (itn g (i + k) u0) := by
    intro k
    induction k with
    | zero => intro i; rfl
    | succ k ih =>
      intro i
      have := ih (i + 1)
      rw [show i + 1 + k = i + (k + 1) by omega] at this
      exact ⟨itn g (i + 1) u0, (hg _ (hi i)).1, this⟩
  obtain ⟨i, j, i1, i2, i3⟩ := php N (fun i => itn g i u0) (fun i _ => hp _ (hi i))
  have i3 : itn g i u0 = itn g j u0 := i3
  refine ⟨itn g i u0, hi i, j - i - 1, ?_⟩
  have := hr (j - i) i
  rw [show i + (j - i) = j by omega, ← i3] at this
  rw [show j - i - 1 + 1 = j - i by omega]
  exact this
/-- the first n of an order: causes stand before -/
def ord (N : Nat) (E : Nat → List Nat) (o : Nat → Nat) (n : Nat) : Prop := (∀ i, i < n → o i < N ∧ ∀ w ∈ E (o i), ∃ j, j < i ∧ o j = w) ∧ ∀ i j, i < n → j < n → o i = o j → i = j
theorem ord_nc {N n : Nat} {E : Nat → List Nat} {o : Nat → Nat} (h : ord N E o n) {i : Nat} (hi : i < n) : ¬ rch E (o i) (o i) := by
  have main : ∀ k i b, i < n → rn E (k + 1) (o i) b → ∃ j, j < i ∧ o j = b := by
    intro k
    induction k with
    | zero =>
      rintro i b hi ⟨w, w1, w2⟩
      have w2 : w = b := w2
      rw [← w2]
      exact (h.1 i hi).2 w w1
    | succ k ih =>
      rintro i b hi ⟨w, w1, w2⟩
      obtain ⟨j, j1, j2⟩ := (h.1 i hi).2 w w1
      rw [← j2] at w2
      obtain ⟨j', j3, j4⟩ := ih j b (by omega) w2
      exact ⟨j', by omega, j4⟩
  rintro ⟨k, hk⟩
  obtain ⟨j, j1, j2⟩ := main k i _ hi hk
  have := h.2 j i (by omega) hi j2
  omega
theorem ord_push {N n v : Nat} {E : Nat → List Nat} {o : Nat → Nat} (h : ord N E o n) (hv : v < N) (h1 : ∀ i, i < n → o i ≠ v) (h2 : ∀ w ∈ E v, ∃ j, j < n ∧ o j = w) : ord N E (fun i => if i = n then v else o i) (n + 1) := by
  have lt : ∀ i, i < n → (if i = n then v else o i) = o i := fun i hi => if_neg (by omega)
  refine ⟨fun i hi => ?_, fun i j hi hj he => ?_⟩
  · rcases Nat.lt_or_ge i n with u | u
    · show (if i = n then v else o i) < N ∧ ∀ w ∈ E (if i = n then v else o i), ∃ j, j < i ∧ (if j = n then v else o j) = w
      rw [lt i u]
      refine ⟨(h.1 i u).1, fun w hw => ?_⟩
      obtain ⟨j, j1, j2⟩ := (h.1 i u).2 w hw
      exact ⟨j, j1, by rw [lt j (by omega)]; exact j2⟩
    · have : i = n := by omega
      subst this
      show (if i = i then v else o i) < N ∧ ∀ w ∈ E (if i = i then v else o i), ∃ j, j < i ∧ (if j = i then v else o j) = w
      rw [if_pos rfl]
      refine ⟨hv, fun w hw => ?_⟩
      obtain ⟨j, j1, j2⟩ := h2 w hw
      exact ⟨j, j1, by rw [lt j j1]; exact j2⟩
  · have he : (if i = n then v else o i) = (if j = n then v else o j) := he
    rcases Nat.lt_or_ge i n with u | u
    · rw [lt i u] at he
      rcases Nat.lt_or_ge j n with w | w
      · rw [lt j w] at he
        exact h.2 i j u w he
      · have : j = n := by omega
        rw [if_pos this] at he
        exact absurd he (h1 i u)
    · have ei : i = n := by omega
      rw [if_pos ei] at he
      rcases Nat.lt_or_ge j n with w | w
      · rw [lt j w] at he
        exact absurd he.symm (h1 j w)
      · omega
theorem unr_0 {f : Nat → Int32} {N v : Nat} (h : unr f N = 0) (hv : v < N) : f v ≠ 0 := fun u => by
  have := unr_pos u N hv
  omega
theorem unr_ex {f : Nat → Int32} : ∀ N, unr f N ≠ 0 → ∃ v, v < N ∧ f v = 0 := by
  intro N
  induction N with
  | zero => intro h; exact absurd rfl h
  | succ N ih =>
    intro h
    rw [unr] at h
    by_cases u : f N = 0
    · exact ⟨N, by omega, u⟩
    · rw [if_neg u, Nat.add_zero] at h
      obtain ⟨v, v1, v2⟩ := ih h
      exact ⟨v, by omega, v2⟩
section
variable {z : MZ} {σ : MS}
/-- the place of a variable, while a Wrong lies on the stack -/
theorem ordered_216 {jm : MJ} {q r d' : Nat} {x3 pl : Int32} (hC : ∀ z' : MZ, z'.2.1 = z.2.1 → z'.1 = z.1 → ml_C z' mX6_placeOfVariable d' 0 [vR (some z.2.1), vI x3] σ (fun u σ' _ => u = some (vI pl) ∧ σ' = σ) (fun _ _ _ => False)) (hdp : d' + 1 ≤ jm.1) (hr : r < jm.2.1) (K : ml_V z mX6_ordered jm 224 [] [vI pl, vI 7, vR (some q), vR (some q)] σ (fun G => hp_kd G q = 4 ∧ hp_A z.1 q ∧ ¬ ml_own z q ∧ hp_kd z.2.2.2 q = 0) r) :
    ml_V z mX6_ordered jm 216 [(0, vR (some z.2.1)), (3, vI x3)] [vR (some q)] σ (fun G => hp_kd G q = 4 ∧ hp_A z.1 q ∧ ¬ ml_own z q ∧ hp_kd z.2.2.2 q = 0) r := by
  intro G h1 h2 h3
  refine wk_dup dX6_ordered_216 rfl ?_
  refine wk_bipush (7 : Int32) dX6_ordered_217 (by decide) ?_
  refine wk_aload_n 0 dX6_ordered_219 rfl rfl ?_
  refine wk_iload_n 3 dX6_ordered_220 rfl rfl ?_
  have hW' : ml_W (rd_z z G) σ G := h1
  refine wk_callV (hC (rd_z z G) rfl rfl G hW' ⟨hp_fr.refl, rfl, rfl⟩) rfl q3134 q3136 qs101 q122 q3137 mdX6_placeOfVariable (Nat.le_of_ble_eq_true rfl) ⟨by rw [h1.1.1]; decide, by rw [h1.1.1]; decide, by rw [h1.1.1]; rfl⟩ rfl rfl (Nat.le_of_ble_eq_true rfl) hdp (Nat.zero_le _) dX6_ordered_221 ?_ ?_
  · rintro v G' ⟨σ', hW2, hF2, rfl, hσ⟩
    subst hσ
    have hW2 : ml_W z σ' G' := hW2
    obtain ⟨g1, g2, g3, g4⟩ := h3
    have hk : hp_kd G' q = 4 := by
      have := (hF2.1 q (by show hp_kd G q ≠ 0; rw [g1]; decide) g3).1
      exact this.trans g1
    have := K G' hW2 ⟨h2.1.trans hF2.1, h2.2.1, fun e => by omega⟩ ⟨hk, g2, g3, g4⟩
    exact wk_sub [] trivial this
  · rintro E' q' G' ⟨-, -, σ', -, -, h⟩
    exact h.elim
end
