/-! full clocks and parts; the causes that an expression names -/
set_option maxRecDepth 100000
theorem pt_parent {S : MS} {lo hi : Nat} (h : pt S lo hi) : ∀ m k x, k < m → lo ≤ k → k < hi → lw (S.2 34) k ≤ x → x < k → ∃ e, e ≤ k ∧ x < e ∧ lo ≤ e ∧ x ∈ kls S e := by
  intro m
  induction m with
  | zero => intro k x h; omega
  | succ m ih =>
    intro k x h1 h2 h3 h4 h5
    obtain ⟨g1, g2⟩ := (h k h2 h3).2
    obtain ⟨y, y1, y2, y3⟩ := pw_k_in _ _ x g2 h4 h5
    have hm := (pw_k_mem _ _ g2).2 y y1
    have hlo := (h k h2 h3).1
    rcases Nat.lt_or_ge x y with u | u
    · obtain ⟨e, e1, e2, e3, e4⟩ := ih y x (by omega) (by omega) (by omega) y2 u
      exact ⟨e, by omega, e2, e3, e4⟩
    · have : x = y := by omega
      rw [this]
      exact ⟨k, Nat.le_refl _, by omega, h2, y1⟩
/-- the full clock of an expression -/
def fq (S : MS) (f e : Nat) : Prop := nq (vw S f) (S.2 43 e) ∧ S.2 43 e ≠ -2
theorem nq_v.ne {S : MS} (h : nq_v S) {v : Nat} (h1 : pr_a S ≤ v) (h2 : v < pr_v S) : S.2 22 v ≠ -2 := by
  rcases h v h1 h2 with e | ⟨w, w1, w2, -⟩
  · rw [e]; decide
  · rw [w2]
    exact fun u => nI_pos (n := w) (by omega) (by rw [u]; decide)
theorem fq_all {T : Nat → Int32} {n f a a' i o q q' p p' l l' : Nat} {S : MS} (hn : nf T n S f a a' i o q q' p p' l l') (hk : ∀ k, q ≤ k → k < q' → fk S a k) : ∀ e, p ≤ e → e < p' → fq S f e := by
  obtain ⟨hj, -⟩ := nf_inj hn
  obtain ⟨⟨a1, a2, a3, a4, a5, a6⟩, ⟨b1, b2, b3, b4, b5, b6, b7, b8, b9, b10, b11, b12, b13, b14⟩, ⟨P, L, ⟨c1, c2, c3, c4⟩, c5, c6⟩, d1, -, f1, -⟩ := id hn
  have hf31 : f < 2 ^ 31 := by omega
  have ea : pr_a (vw S f) = a := by rw [vw_a hf31, a1, jg_n, nI_clamp (by omega)]
  have ev : pr_v (vw S f) = a' := by rw [vw_v, a2, jg_n, nI_clamp (by omega)]
  have h22 : ∀ v, a ≤ v → v < a' → nq (vw S f) (S.2 22 v) ∧ S.2 22 v ≠ -2 := fun v v1 v2 => ⟨f1.q (by rw [ea]; exact v1) (by rw [ev]; exact v2), f1.ne (by rw [ea]; exact v1) (by rw [ev]; exact v2)⟩
  intro e e1 e2
  obtain ⟨k, k1, k2, k3, k4⟩ := loc_k (P := P) (e := e) (q' - q) q (by rw [c1]; exact e1) (by rw [show q + (q' - q) = q' by omega, c2]; exact e2)
  obtain ⟨c, hW, -⟩ := c6 k k1 (by omega)
  obtain ⟨m1, m2, m3, m4⟩ := c5 k k1 (by omega)
  have hfk := hk k k1 (by omega)
  rw [fk_eq hW (by omega) (by omega)] at hfk
  obtain ⟨g1, g2, g3, g4⟩ := hfk
  obtain ⟨w1, w2, w3, w4, w5, w6, w7, w8, w9, w10, w11, w12, w13⟩ := hW
  have w9 : lw (S.2 34) (P (k + 1) - 1) = P k := w9
  have hpt : pt S (P k) (P (k + 1)) := (w10.pt (by omega)).vw
  have main : ∀ m e, P (k + 1) ≤ e + m → P k ≤ e → e < P (k + 1) → fq S f e := by
    intro m
    induction m with
    | zero => intro e h1 h2 h3; omega
    | succ m ih =>
      intro e h1 h2 h3
      rcases Nat.lt_or_ge e (P (k + 1) - 1) with u | u
      · obtain ⟨e', r1, r2, r3, r4⟩ := pt_parent hpt (P (k + 1)) (P (k + 1) - 1) e (by omega) (by omega) (by omega) (by rw [w9]; exact h2) u
        obtain ⟨j, hj2⟩ := List.getElem?_of_mem r4
        obtain ⟨x1, -⟩ := (g3 e' r3 (by omega)).1 j e hj2
        unfold fq
        rw [x1]
        by_cases u2 : S.2 36 e = -2
        · rw [if_pos u2]
          unfold ar_o
          by_cases u3 : S.2 32 e' = 26
          · rw [if_pos u3]
            obtain ⟨s1, -⟩ := nf_call hn (e := e') (by omega) (by omega)
            rcases s1 with ⟨q, -⟩ | ⟨q, -⟩ | ⟨q, -⟩ | ⟨q, -⟩ | ⟨q, m⟩ | ⟨q, r, m⟩ | ⟨q, r, m⟩ | ⟨q, m, v, s, s5, v1, v2, v3⟩
            · rw [q] at u3; exact absurd u3 (by decide)
            · rw [q] at u3; exact absurd u3 (by decide)
            · rw [q] at u3; exact absurd u3 (by decide)
            · rw [q] at u3; exact absurd u3 (by decide)
            · rw [q] at u3; exact absurd u3 (by decide)
            · rw [u3] at r; exact absurd r (by decide)
            · rw [u3] at r; exact absurd r (by decide)
            · rw [ea, ev] at v1
              rw [v3, nI_clamp (by omega)]
              exact h22 _ (by omega) (by omega)
          · rw [if_neg u3]
            exact ih e' (by omega) r3 (by omega)
        · rw [if_neg u2]
          exact ⟨(d1 e (by omega) (by omega)).1, u2⟩
      · have ee : e = P (k + 1) - 1 := by omega
        subst ee
        unfold fq
        rw [g1]
        by_cases u2 : S.2 36 (P (k + 1) - 1) = -2
        · rw [if_pos u2]
          have := hj (L k) (by omega) (by omega)
          exact h22 _ (by omega) (by omega)
        · rw [if_neg u2]
          exact ⟨(d1 _ (by omega) (by omega)).1, u2⟩
  exact main (P (k + 1)) e (by omega) k3 k4
/-! causes as a list -/
def cz (S : MS) (l : List Int32) : MS := l.foldl md_cause S
theorem md_cause_2 {S : MS} {v : Int32} {q : Nat} (h : q ≠ 66) : (md_cause S v).2 q = S.2 q := by
  unfold md_cause
  split
  · rfl
  · funext j
    rw [ml_sa_a, if_neg h]
    rfl
theorem md_cause_1 {S : MS} {v : Int32} {q : Nat} (h : q ≠ 67) : (md_cause S v).1 q = S.1 q := by
  unfold md_cause
  split
  · rfl
  · rw [ml_sa_f, ml_sf_f, if_neg h]
theorem cz_2 {q : Nat} (h : q ≠ 66) : ∀ (l : List Int32) (S : MS), (cz S l).2 q = S.2 q
  | [], _ => rfl
  | v :: l, S => (cz_2 h l (md_cause S v)).trans (md_cause_2 h)
theorem cz_1 {q : Nat} (h : q ≠ 67) : ∀ (l : List Int32) (S : MS), (cz S l).1 q = S.1 q
  | [], _ => rfl
  | v :: l, S => (cz_1 h l (md_cause S v)).trans (md_cause_1 h)
theorem cz_app {l l2 : List Int32} {S : MS} : cz S (l ++ l2) = cz (cz S l) l2 := List.foldl_append
theorem cz_val : ∀ (l : List Int32) (S : MS) (c : Nat), S.1 67 = nI c → c + l.length ≤ 60000 → (cz S l).1 67 = nI (c + l.length) ∧ (∀ j v, l[j]? = some v → (cz S l).2 66 (c + j) = v) ∧ ∀ j, j < c → (cz S l).2 66 j = S.2 66 j
  | [], S, c, h, _ => ⟨h, fun j v hj => by simp at hj, fun _ _ => rfl⟩
  | w :: l, S, c, h, hb => by
    rw [List.length_cons] at hb
    have hlt : ¬ nI 60000 ≤ nI c := fun u => by have := (nI_leI (a := 60000) (b := c) (by omega) (by omega)).1 u; omega
    have e1 : md_cause S w = ml_sa (ml_sf S 67 (nI (c + 1))) 66 c w := by
      unfold md_cause
      rw [h, if_neg hlt, nI_clamp (by omega), nI_1]
    have e67 : (md_cause S w).1 67 = nI (c + 1) := by rw [e1, ml_sa_f, ml_sf_f, if_pos rfl]
    have e66 : ∀ j, (md_cause S w).2 66 j = if j = c then w else S.2 66 j := fun j => by rw [e1, ml_sa_a, if_pos rfl]; rfl
    obtain ⟨g1, g2, g3⟩ := cz_val l (md_cause S w) (c + 1) e67 (by omega)
    refine ⟨?_, fun j v hj => ?_, fun j hj => ?_⟩
    · show (cz (md_cause S w) l).1 67 = _
      rw [g1, List.length_cons]
      congr 1
      omega
    · show (cz (md_cause S w) l).2 66 (c + j) = v
      cases j with
      | zero =>
        have : w = v := by simpa using hj
        rw [Nat.add_zero, g3 c (by omega), e66, if_pos rfl]
        exact this
      | succ j =>
        have : l[j]? = some v := by simpa using hj
        rw [show c + (j + 1) = c + 1 + j by omega]
        exact g2 j v this
    · show (cz (md_cause S w) l).2 66 j = _
      rw [g3 j (by omega), e66, if_neg (by omega)]
/-- what the expression e of the instance x names, of the part of root -/
def cz_e (S : MS) (x root e : Nat) : List Int32 :=
  if S.2 44 e = nI root then
    if S.2 32 e = 2 then [S.2 59 x + S.2 33 e] else if S.2 32 e = 3 ∧ ¬ e = root then [pcs_o S x e] else if S.2 32 e = 26 then [S.2 59 x + S.2 33 e / 2] else if S.2 32 e = 25 then [S.2 59 x + S.2 43 (S.2 34 e).toNatClampNeg / 2] else []
  else []
def cz_p (S : MS) (x root : Nat) : Nat → Nat → List Int32
  | 0, _ => []
  | M + 1, e => cz_e S x root e ++ cz_p S x root M (e + 1)
theorem cz_e_cg {S S' : MS} {x root e : Nat} (h : ∀ q, q ≠ 66 → q ≠ 65 → S'.2 q = S.2 q) : cz_e S' x root e = cz_e S x root e := by
  unfold cz_e pcs_o
  rw [h 44 (by omega) (by omega), h 32 (by omega) (by omega), h 59 (by omega) (by omega), h 33 (by omega) (by omega), h 43 (by omega) (by omega), h 34 (by omega) (by omega), h 62 (by omega) (by omega), h 61 (by omega) (by omega), h 37 (by omega) (by omega), h 13 (by omega) (by omega)]
theorem cz_p_cg {S S' : MS} {x root : Nat} (h : ∀ q, q ≠ 66 → q ≠ 65 → S'.2 q = S.2 q) : ∀ M e, cz_p S' x root M e = cz_p S x root M e := by
  intro M
  induction M with
  | zero => intro e; rfl
  | succ M ih => intro e; rw [cz_p, cz_p, cz_e_cg h, ih]
theorem pcs_e_cz {S : MS} {x root e : Nat} : pcs_e S x root e = cz S (cz_e S x root e) := by
  unfold pcs_e cz_e
  by_cases h0 : S.2 44 e = nI root
  · rw [if_pos h0, if_pos h0]
    have c2 : ∀ v, (md_cause S v).2 32 = S.2 32 := fun v => md_cause_2 (by omega)
    have n2 : ∀ S1 : MS, ¬ S1.2 32 e = 3 → pcs_2 S1 x root e = S1 := fun S1 u => if_neg (fun w => u w.1)
    have n3 : ∀ S1 : MS, ¬ S1.2 32 e = 26 → pcs_3 S1 x e = S1 := fun S1 u => if_neg u
    have n4 : ∀ S1 : MS, ¬ S1.2 32 e = 25 → pcs_4 S1 x e = S1 := fun S1 u => if_neg u
    by_cases h1 : S.2 32 e = 2
    · rw [if_pos h1]
      have e1 : pcs_1 S x e = md_cause S (S.2 59 x + S.2 33 e) := if_pos h1
      rw [e1, n2 _ (by rw [c2, h1]; decide), n3 _ (by rw [c2, h1]; decide), n4 _ (by rw [c2, h1]; decide)]
      rfl
    · rw [if_neg h1]
      have e1 : pcs_1 S x e = S := if_neg h1
      rw [e1]
      by_cases h2 : S.2 32 e = 3 ∧ ¬ e = root
      · rw [if_pos h2]
        have e2 : pcs_2 S x root e = md_cause S (pcs_o S x e) := if_pos h2
        rw [e2, n3 _ (by rw [c2, h2.1]; decide), n4 _ (by rw [c2, h2.1]; decide)]
        rfl
      · rw [if_neg h2]
        have e2 : pcs_2 S x root e = S := if_neg h2
        rw [e2]
        by_cases h3 : S.2 32 e = 26
        · rw [if_pos h3]
          have e3 : pcs_3 S x e = md_cause S (S.2 59 x + S.2 33 e / 2) := if_pos h3
          rw [e3, n4 _ (by rw [c2, h3]; decide)]
          rfl
        · rw [if_neg h3]
          have e3 : pcs_3 S x e = S := if_neg h3
          rw [e3]
          by_cases h4 : S.2 32 e = 25
          · rw [if_pos h4]
            have e4 : pcs_4 S x e = md_cause S (S.2 59 x + S.2 43 (S.2 34 e).toNatClampNeg / 2) := if_pos h4
            rw [e4]
            rfl
          · rw [if_neg h4, n4 _ h4]
            rfl
  · rw [if_neg h0, if_neg h0]
    rfl
theorem pcs_cz {x root : Nat} : ∀ M e S, pcs x root M e S = cz S (cz_p S x root M e) := by
  intro M
  induction M with
  | zero => intro e S; rfl
  | succ M ih =>
    intro e S
    rw [pcs, cz_p, cz_app, ih, pcs_e_cz, cz_p_cg (fun q a b => cz_2 a _ _)]
