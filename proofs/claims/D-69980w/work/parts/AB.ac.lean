/-! around and countParts of all nodes -/
set_option maxRecDepth 100000
theorem fk_eq {T : Nat → Int32} {n f c p1 p2 l1 l2 a k : Nat} {S : MS} (hW : pe_W T n (vw S f) k c p1 p2 l1 l2) (hp : p2 < 2 ^ 31) (hl : l2 < 2 ^ 31) : fk S a k = fk0 S a k p1 p2 l1 l2 := by
  obtain ⟨w1, w2, w3, w4, w5, w6, w7, w8, w9, w10, w11, w12, w13⟩ := hW
  have w3 : S.2 29 k = nI p1 := w3
  have w4 : S.2 27 k = nI (p2 - 1) := w4
  have w6 : S.2 26 k = nI l1 := w6
  have w7 : S.2 26 (k + 1) = nI l2 := w7
  unfold fk
  rw [w3, w4, w6, w7, jg_n, jg_n, jg_n, jg_n, nI_clamp (n := p1) (by omega), nI_clamp (n := p2 - 1) (by omega), nI_clamp (n := l1) (by omega), nI_clamp (n := l2) (by omega), show p2 - 1 + 1 = p2 by omega]
/-- what was read stands -/
def ac_same (S S' : MS) : Prop := S'.1 = S.1 ∧ ∀ q, q < 43 ∨ 48 < q → S'.2 q = S.2 q
theorem ac_same.rf {S : MS} : ac_same S S := ⟨rfl, fun _ _ => rfl⟩
theorem ac_same.tr {S S1 S2 : MS} (h : ac_same S S1) (h2 : ac_same S1 S2) : ac_same S S2 := ⟨h2.1.trans h.1, fun q hq => (h2.2 q hq).trans (h.2 q hq)⟩
theorem ar_same.ac {S S' : MS} (h : ar_same S S') : ac_same S S' := ⟨h.1, fun q hq => h.2 q (by omega)⟩
theorem ac_same.nv {S S' : MS} (h : ac_same S S') (f p' q q' l l' : Nat) : nv (vw S f) (vw S' f) p' q q' l l' := by
  have hN : (vw S' f).1 18 = (vw S f).1 18 := rfl
  have eN : pr_N (vw S' f) = pr_N (vw S f) := rfl
  refine ⟨⟨eN, ?_, ?_, ?_, h.2 0 (by omega)⟩, fun x g hx _ => ?_, fun x v hx _ => ?_, fun x k hx _ _ => ?_, fun k _ _ => ?_, fun j _ _ => ?_, fun x e hx hx2 _ => ?_⟩
  · unfold pr_a
    rw [eN]
    show (S'.2 12 _).toNatClampNeg = (S.2 12 _).toNatClampNeg
    rw [h.2 12 (by omega)]
  · rw [vw_v, vw_v, h.2 12 (by omega)]
  · unfold pr_i
    rw [eN]
    show (S'.2 13 _).toNatClampNeg = (S.2 13 _).toNatClampNeg
    rw [h.2 13 (by omega)]
  · show S'.2 x g = S.2 x g
    rw [h.2 x (by omega)]
  · show S'.2 x v = S.2 x v
    rw [h.2 x (by omega)]
  · show S'.2 x k = S.2 x k
    rw [h.2 x (by omega)]
  · show S'.2 26 k = S.2 26 k
    rw [h.2 26 (by omega)]
  · show S'.2 28 j = S.2 28 j
    rw [h.2 28 (by omega)]
  · show S'.2 x e = S.2 x e
    rw [h.2 x (by omega)]
theorem ac_same.nk {S S' : MS} (h : ac_same S S') (N v k l p : Nat) : nk N v k l p S S' :=
  ⟨fun x j hx _ => by rw [h.2 x (by omega)], fun x j hx _ _ => by rw [h.2 x (by omega)], fun x j hx _ => by rw [h.2 x (by omega)], fun x j hx _ => by rw [h.2 x (by omega)], fun j _ => by rw [h.2 26 (by omega)], fun j _ => by rw [h.2 28 (by omega)], fun x e hx hx2 _ => by rw [h.2 x (by omega)], h.2 0 (by omega)⟩
theorem nf.ac {T : Nat → Int32} {n f a a' i o q q' p p' l l' : Nat} {S S' : MS} (h : ac_same S S') (hf : f < 60) (g : nf T n S f a a' i o q q' p p' l l') : nf T n S' f a a' i o q q' p p' l l' :=
  g.keep (h.nk 60 a' q' l' p') (Nat.le_refl _) hf (Nat.le_refl _) (Nat.le_refl _) (Nat.le_refl _) (Nat.le_refl _)
theorem nfs.ac {T : Nat → Int32} {n : Nat} {S S' : MS} {A Q P L : Nat → Nat} (h : ac_same S S') (hN : pr_N S ≤ 60) (g : nfs T n S A Q P L) : nfs T n S' A Q P L := by
  obtain ⟨⟨f1, f2, f3, f4⟩, f5, f6, f7⟩ := g
  have e1 : pr_N S' = pr_N S := by rw [pr_N, pr_N, h.1]
  have e2 : pr_v S' = pr_v S := by rw [pr_v, pr_v, h.1]
  have e3 : pr_k S' = pr_k S := by rw [pr_k, pr_k, h.1]
  have e4 : pr_p S' = pr_p S := by rw [pr_p, pr_p, h.1]
  have e5 : pr_l S' = pr_l S := by rw [pr_l, pr_l, h.1]
  refine ⟨by rw [e1, e2, e3, e4, e5]; exact ⟨f1, f2, f3, f4⟩, fun f hf => ?_, ?_, ?_⟩
  · rw [e1] at hf
    obtain ⟨i, o, g⟩ := f5 f hf
    exact ⟨i, o, g.ac h (by omega)⟩
  · rw [e1, h.2 15 (by omega), h.1]
    exact f6
  · rw [e4, h.2 38 (by omega), h.2 34 (by omega)]
    exact f7
/-- the equations of a node -/
theorem ar_all_val {T : Nat → Int32} {n f a a' i o q q' p p' l l' : Nat} {S : MS} (h : nf T n S f a a' i o q q' p p' l l') : ∀ m k S1, k + m = q' → q ≤ k → ar_same S S1 → (∀ x, q ≤ x → x < k → fk S1 a x) →
    (∀ x, q ≤ x → x < q' → fk (ar_all a m k S1) a x) ∧ ar_same S (ar_all a m k S1) ∧ (∀ x e, x = 43 ∨ x = 44 ∨ x = 45 → (e < p ∨ p' ≤ e) → (ar_all a m k S1).2 x e = S1.2 x e) ∧ ∀ x y, x = 46 ∨ x = 47 → (y < a ∨ a' ≤ y) → (ar_all a m k S1).2 x y = S1.2 x y := by
  obtain ⟨hj, hinj⟩ := nf_inj h
  obtain ⟨⟨a1, a2, a3, a4, a5, a6⟩, ⟨b1, b2, b3, b4, b5, b6, b7, b8, b9, b10, b11, b12, b13, b14⟩, ⟨P, L, ⟨c1, c2, c3, c4⟩, c5, c6⟩, -⟩ := id h
  have mP : ∀ k, q ≤ k → k < q' → P k < P (k + 1) := fun k a b => by
    obtain ⟨c, w, -⟩ := c6 k a b
    exact w.2.2.2.2.1
  have mL : ∀ k, q ≤ k → k < q' → L k < L (k + 1) := fun k a b => by
    obtain ⟨c, w, -⟩ := c6 k a b
    exact w.2.2.2.2.2.2.2.1
  intro m
  induction m with
  | zero =>
    intro k S1 hk hq hs hF
    exact ⟨fun x x1 x2 => hF x x1 (by omega), hs, fun _ _ _ _ => rfl, fun _ _ _ _ => rfl⟩
  | succ m ih =>
    intro k S1 hk hq hs hF
    obtain ⟨c, hW, -⟩ := c6 k hq (by omega)
    obtain ⟨m1, m2, m3, m4⟩ := c5 k hq (by omega)
    have hv := fun (S1 : MS) (hs : ar_same S S1) => hs.ac.nv f p' q q' l l'
    have ejv : ∀ S1, ar_same S S1 → ∀ j, jg_v S1 j = jg_v S j := fun S1 hs j => by
      unfold jg_v
      rw [hs.2 28 (by omega)]
    obtain ⟨g1, g2, g3⟩ := ar_q_val (a := a) b7 (hW.nv (hv S1 hs) m2 hq (by omega) m3 m4) (by omega) (by omega) (fun j j' r1 r2 r3 r4 he => hinj j j' (by omega) (by omega) (by omega) (by omega) (by rw [ejv S1 hs, ejv S1 hs] at he; exact he))
    have hs2 : ar_same S (ar_q a k S1) := hs.tr ar_q_same
    obtain ⟨i1, i2, i3, i4⟩ := ih (k + 1) (ar_q a k S1) (by omega) (by omega) hs2 (fun x x1 x2 => by
      rcases Nat.lt_or_ge x k with u | u
      · obtain ⟨c9, hW9, -⟩ := c6 x x1 (by omega)
        obtain ⟨n1, n2, n3, n4⟩ := c5 x x1 (by omega)
        have hW1 := hW9.nv (hv S1 hs) n2 x1 (by omega) n3 n4
        have hW2 := hW9.nv (hv _ hs2) n2 x1 (by omega) n3 n4
        have o1 := mono_k mP (k - (x + 1)) (x + 1) (by omega) (by omega)
        have o2 := mono_k mL (k - (x + 1)) (x + 1) (by omega) (by omega)
        rw [show x + 1 + (k - (x + 1)) = k by omega] at o1 o2
        have hx := hF x x1 u
        rw [fk_eq hW1 (by omega) (by omega)] at hx
        rw [fk_eq hW2 (by omega) (by omega)]
        refine hx.keep ((hW1.2.2.2.2.2.2.2.2.2.1.pt (by omega)).vw) (mP x x1 (by omega)) (mL x x1 (by omega)) (fun q hq => ar_q_same.2 q (by omega)) (fun y e hy e1 e2 => g2 y e hy (by omega)) (fun y j hy j1 j2 => g3 y _ hy (fun j' j3 j4 he => ?_))
        have := hinj j j' (by omega) (by omega) (by omega) (by omega) (by rw [ejv S1 hs, ejv S1 hs] at he; omega)
        omega
      · have ex : x = k := by omega
        rw [ex]
        exact g1)
    refine ⟨i1, i2, fun x e hx he => ?_, fun x y hx hy => ?_⟩
    · show (ar_all a m (k + 1) (ar_q a k S1)).2 x e = _
      rw [i3 x e hx he, g2 x e hx (by omega)]
    · show (ar_all a m (k + 1) (ar_q a k S1)).2 x y = _
      rw [i4 x y hx hy, g3 x y hx (fun j r1 r2 he => ?_)]
      have := hj j (by omega) (by omega)
      rw [ejv S1 hs] at he
      omega
/-! how many: sums over the calls -/
/-- the sum of h over the nodes called by the m expressions from e on -/
def ts_e (h : Nat → Nat) (S : MS) : Nat → Nat → Nat
  | 0, _ => 0
  | m + 1, e => (if S.2 32 e = 3 then h (jg_n (S.2 33 e)) else 0) + ts_e h S m (e + 1)
/-- the expressions of a node -/
def pn_lo (S : MS) (n : Nat) : Nat := jg_n (S.2 29 (jg_n (S.2 15 n)))
def pn_hi (S : MS) (n : Nat) : Nat := jg_n (S.2 27 (jg_n (S.2 15 (n + 1)) - 1)) + 1
/-- the sum of g over a node and all that are put in it -/
def ts (g : Nat → Nat) (S : MS) : Nat → Nat → Nat
  | 0, _ => 0
  | f + 1, n => g n + ts_e (ts g S f) S (pn_hi S n - pn_lo S n) (pn_lo S n)
theorem nf_lohi {T : Nat → Int32} {n f a a' i o q q' p p' l l' : Nat} {S : MS} (h : nf T n S f a a' i o q q' p p' l l') : pn_lo S f = p ∧ pn_hi S f = p' := by
  obtain ⟨⟨a1, a2, a3, a4, a5, a6⟩, ⟨b1, b2, b3, b4, b5, b6, b7, b8, b9, b10, b11, b12, b13, b14⟩, ⟨P, L, ⟨c1, c2, c3, c4⟩, c5, c6⟩, -⟩ := id h
  obtain ⟨c, hW, -⟩ := c6 q (Nat.le_refl _) b5
  obtain ⟨c9, hW9, -⟩ := c6 (q' - 1) (by omega) (by omega)
  obtain ⟨w1, w2, w3, w4, w5, w6, w7, w8, w9, w10, w11, w12, w13⟩ := hW
  obtain ⟨y1, y2, y3, y4, y5, y6, y7, y8, y9, y10, y11, y12, y13⟩ := hW9
  have w3 : S.2 29 q = nI (P q) := w3
  have y4 : S.2 27 (q' - 1) = nI (P (q' - 1 + 1) - 1) := y4
  have m1 := c5 q (Nat.le_refl _) b5
  have m2 := c5 (q' - 1) (by omega) (by omega)
  rw [show q' - 1 + 1 = q' by omega, c2] at y4 y5
  refine ⟨?_, ?_⟩
  · rw [pn_lo, a5, jg_n, jg_n, nI_clamp (n := q) (by omega), w3, nI_clamp (by omega), c1]
  · rw [pn_hi, a6, jg_n, jg_n, nI_clamp (n := q') (by omega), y4, nI_clamp (by omega)]
    omega
theorem ts_e_cg {h : Nat → Nat} {S S' : MS} (h1 : S'.2 32 = S.2 32) (h2 : S'.2 33 = S.2 33) : ∀ m e, ts_e h S' m e = ts_e h S m e := by
  intro m
  induction m with
  | zero => intro e; rfl
  | succ m ih => intro e; rw [ts_e, ts_e, ih, h1, h2]
theorem ts_e_cg2 {h h' : Nat → Nat} {S : MS} : ∀ m e, (∀ x, e ≤ x → x < e + m → S.2 32 x = 3 → h' (jg_n (S.2 33 x)) = h (jg_n (S.2 33 x))) → ts_e h' S m e = ts_e h S m e := by
  intro m
  induction m with
  | zero => intro e _; rfl
  | succ m ih =>
    intro e hh
    rw [ts_e, ts_e, ih (e + 1) (fun x a b => hh x (by omega) (by omega))]
    by_cases u : S.2 32 e = 3
    · rw [if_pos u, if_pos u, hh e (Nat.le_refl _) (by omega) u]
    · rw [if_neg u, if_neg u]
theorem ts_e_add {h : Nat → Nat} {S : MS} {m2 : Nat} : ∀ m e, ts_e h S (m + m2) e = ts_e h S m e + ts_e h S m2 (e + m) := by
  intro m
  induction m with
  | zero => intro e; rw [Nat.zero_add]; exact (Nat.zero_add _).symm
  | succ m ih =>
    intro e
    rw [show m + 1 + m2 = (m + m2) + 1 by omega, ts_e, ts_e, ih (e + 1), show e + 1 + m = e + (m + 1) by omega, Nat.add_assoc]
theorem ts_e_le {h h' : Nat → Nat} {S : MS} {c : Nat} : ∀ m e, (∀ x, e ≤ x → x < e + m → S.2 32 x = 3 → h' (jg_n (S.2 33 x)) ≤ c * h (jg_n (S.2 33 x))) → ts_e h' S m e ≤ c * ts_e h S m e := by
  intro m
  induction m with
  | zero => intro e _; exact Nat.zero_le _
  | succ m ih =>
    intro e hh
    rw [ts_e, ts_e, Nat.mul_add]
    have := ih (e + 1) (fun x a b => hh x (by omega) (by omega))
    by_cases u : S.2 32 e = 3
    · rw [if_pos u, if_pos u]
      have := hh e (Nat.le_refl _) (by omega) u
      omega
    · rw [if_neg u, if_neg u]
      omega
theorem ts_le {g g' : Nat → Nat} {S : MS} {c : Nat} (h : ∀ n, g' n ≤ c * g n) : ∀ f n, ts g' S f n ≤ c * ts g S f n := by
  intro f
  induction f with
  | zero => intro n; exact Nat.zero_le _
  | succ f ih =>
    intro n
    rw [ts, ts, Nat.mul_add]
    have := h n
    have := ts_e_le (h := ts g S f) (h' := ts g' S f) (S := S) (c := c) (pn_hi S n - pn_lo S n) (pn_lo S n) (fun x _ _ _ => ih _)
    omega
