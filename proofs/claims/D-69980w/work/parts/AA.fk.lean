/-! what around leaves of an equation, of a node -/
set_option maxRecDepth 100000
def fk0 (S : MS) (a k p1 p2 l1 l2 : Nat) : Prop := S.2 43 (p2 - 1) = (if S.2 36 (p2 - 1) = -2 then S.2 22 (a + jg_v S l1) else S.2 36 (p2 - 1)) ∧ S.2 44 (p2 - 1) = nI (p2 - 1) ∧ (∀ e, p1 ≤ e → e < p2 → fu_e S a e ∧ S.2 45 e = nI (lw (S.2 34) e)) ∧ ∀ j, l1 ≤ j → j < l2 → S.2 46 (a + jg_v S j) = nI k ∧ S.2 47 (a + jg_v S j) = nI (j - l1)
/-- the equation k of a node whose variables begin at a -/
def fk (S : MS) (a k : Nat) : Prop := fk0 S a k (jg_n (S.2 29 k)) (jg_n (S.2 27 k) + 1) (jg_n (S.2 26 k)) (jg_n (S.2 26 (k + 1)))
/-- an equation stands as it was -/
theorem fk0.keep {S S' : MS} {a k p1 p2 l1 l2 : Nat} (hW : pt S p1 p2) (hp : p1 < p2) (hl : l1 < l2) (hs : ∀ q, q < 43 → S'.2 q = S.2 q) (h1 : ∀ x e, x = 43 ∨ x = 44 ∨ x = 45 → p1 ≤ e → e < p2 → S'.2 x e = S.2 x e) (h2 : ∀ x j, x = 46 ∨ x = 47 → l1 ≤ j → j < l2 → S'.2 x (a + jg_v S j) = S.2 x (a + jg_v S j)) (h : fk0 S a k p1 p2 l1 l2) : fk0 S' a k p1 p2 l1 l2 := by
  obtain ⟨g1, g2, g3, g4⟩ := h
  have ej : ∀ j, jg_v S' j = jg_v S j := fun j => by
    unfold jg_v
    rw [hs 28 (by omega)]
  refine ⟨?_, ?_, fun e e1 e2 => ⟨fun j x hj => ?_, ?_⟩, fun j j1 j2 => ?_⟩
  · rw [h1 43 _ (by omega) (by omega) (by omega), hs 36 (by omega), hs 22 (by omega), ej]
    exact g1
  · rw [h1 44 _ (by omega) (by omega) (by omega)]
    exact g2
  · have hk : kls S' e = kls S e := by
      unfold kls
      rw [hs 34 (by omega), hs 35 (by omega)]
    rw [hk] at hj
    have hx := List.mem_of_getElem? hj
    obtain ⟨k1, k2⟩ := (hW e e1 e2).2
    have hm := (pw_k_mem _ _ k2).2 x hx
    have hlo := (hW e e1 e2).1
    have r := (g3 e e1 e2).1 j x hj
    unfold ar_o at r ⊢
    rw [h1 43 x (by omega) (by omega) (by omega), h1 44 x (by omega) (by omega) (by omega), h1 43 e (by omega) (by omega) (by omega), h1 44 e (by omega) (by omega) (by omega), hs 36 (by omega), hs 32 (by omega), hs 33 (by omega), hs 22 (by omega)]
    exact r
  · rw [h1 45 e (by omega) (by omega) (by omega), hs 34 (by omega)]
    exact (g3 e e1 e2).2
  · rw [ej, h2 46 j (by omega) j1 j2, h2 47 j (by omega) j1 j2]
    exact g4 j j1 j2
theorem ar_q_val {T : Nat → Int32} {n f c p1 p2 l1 l2 a k : Nat} {S : MS} (hf : f < 60) (hW : pe_W T n (vw S f) k c p1 p2 l1 l2) (hp : p2 ≤ 5000) (hl : l2 ≤ 5000) (hinj : ∀ j j', l1 ≤ j → j < l2 → l1 ≤ j' → j' < l2 → jg_v S j = jg_v S j' → j = j') :
    fk (ar_q a k S) a k ∧ (∀ x e, x = 43 ∨ x = 44 ∨ x = 45 → (e < p1 ∨ p2 ≤ e) → (ar_q a k S).2 x e = S.2 x e) ∧ ∀ x y, x = 46 ∨ x = 47 → (∀ j, l1 ≤ j → j < l2 → y ≠ a + jg_v S j) → (ar_q a k S).2 x y = S.2 x y := by
  obtain ⟨w1, w2, w3, w4, w5, w6, w7, w8, w9, w10, w11, w12, w13⟩ := hW
  have w3 : S.2 29 k = nI p1 := w3
  have w4 : S.2 27 k = nI (p2 - 1) := w4
  have w6 : S.2 26 k = nI l1 := w6
  have w7 : S.2 26 (k + 1) = nI l2 := w7
  have hsm := ar_q_same (a := a) (k := k) (S := S)
  have eq : ar_q a k S = ar_w (p2 - 1 + 1 - p1) p1 (ar_e a p1 (p2 - 1 + 1 - p1) (ar_b (ar_l a l1 k (l2 - l1) l1 S) a (p2 - 1) l1)) := by
    unfold ar_q ar_q0
    rw [w3, w4, w6, w7, jg_n, jg_n, jg_n, jg_n, nI_clamp (n := p1) (by omega), nI_clamp (n := p2 - 1) (by omega), nI_clamp (n := l1) (by omega), nI_clamp (n := l2) (by omega)]
  have efk : fk (ar_q a k S) a k = fk0 (ar_q a k S) a k p1 p2 l1 l2 := by
    unfold fk
    rw [hsm.2 29 (by omega), hsm.2 27 (by omega), hsm.2 26 (by omega), w3, w4, w6, w7, jg_n, jg_n, jg_n, jg_n, nI_clamp (n := p1) (by omega), nI_clamp (n := p2 - 1) (by omega), nI_clamp (n := l1) (by omega), nI_clamp (n := l2) (by omega), show p2 - 1 + 1 = p2 by omega]
  rw [efk]
  have em : p1 + (p2 - 1 + 1 - p1) = p2 := by omega
  obtain ⟨l46, l47, lo⟩ := ar_l_val (a := a) (l := l1) (k := k) (l2 - l1) l1 S (fun j j' b1 b2 b3 b4 => hinj j j' b1 (by omega) b3 (by omega))
  generalize hS1 : ar_l a l1 k (l2 - l1) l1 S = S1 at l46 l47 lo eq
  have lsm : ar_same S S1 := by rw [← hS1]; exact ar_l_same _ _ _
  generalize hS2 : ar_b S1 a (p2 - 1) l1 = S2 at eq
  have bsm : ar_same S S2 := by rw [← hS2]; exact lsm.tr ar_b_same
  have jv1 : ∀ j, jg_v S1 j = jg_v S j := fun j => by
    unfold jg_v
    rw [lo 28 (by omega) (by omega)]
  have b43 : ∀ y, S2.2 43 y = if y = p2 - 1 then (if S.2 36 (p2 - 1) = -2 then S.2 22 (a + jg_v S l1) else S.2 36 (p2 - 1)) else S.2 43 y := fun y => by
    rw [← hS2]
    unfold ar_b
    rw [ml_sa_a, if_neg (by omega), ml_sa_a, if_pos rfl, jv1, lo 36 (by omega) (by omega), lo 22 (by omega) (by omega), lo 43 (by omega) (by omega)]
  have b44 : ∀ y, S2.2 44 y = if y = p2 - 1 then nI (p2 - 1) else S.2 44 y := fun y => by
    rw [← hS2]
    unfold ar_b
    rw [ml_sa_a, if_pos rfl, ml_sa_a, if_neg (show ¬ (44 = 43) by omega), lo 44 (by omega) (by omega)]
  have bo : ∀ q, q ≠ 43 → q ≠ 44 → S2.2 q = S1.2 q := fun q q1 q2 => by
    rw [← hS2]
    funext j
    unfold ar_b
    rw [ml_sa_a, if_neg q2, ml_sa_a, if_neg q1]
  have bsm1 : S2.2 34 = S.2 34 := by rw [bo 34 (by omega) (by omega), lo 34 (by omega) (by omega)]
  have bsm2 : S2.2 35 = S.2 35 := by rw [bo 35 (by omega) (by omega), lo 35 (by omega) (by omega)]
  have hpt : pt S p1 p2 := (w10.pt (by omega)).vw
  have hpt2 : pt S2 p1 (p2 - 1 + 1) := by
    rw [show p2 - 1 + 1 = p2 by omega]
    exact hpt.cg bsm1 bsm2
  obtain ⟨e1, e2, e3, e4, e5⟩ := ar_e_val (a := a) (p := p1) (b := p2 - 1) (p2 - 1 + 1 - p1) S2 (by omega) hpt2 (fun e b1 b2 => by omega)
  generalize hS3 : ar_e a p1 (p2 - 1 + 1 - p1) S2 = S3 at e1 e2 e3 e4 e5 eq
  have hpt3 : pt S3 p1 p2 := by
    have := hpt2.cg (e5 34 (by omega) (by omega)) (e5 35 (by omega) (by omega))
    rw [show p2 - 1 + 1 = p2 by omega] at this
    exact this
  obtain ⟨x1, x2, x3⟩ := ar_w_val (p2 - 1 + 1 - p1) p1 S3 (fun x b1 b2 => by
    obtain ⟨y1, y2, y3⟩ := hpt3 x b1 (by omega)
    cases hk : kls S3 x with
    | nil =>
      rw [hk] at y2
      exact Or.inl y2
    | cons k ks =>
      rw [hk] at y2 y3
      exact Or.inr ⟨k, y2.1, y3.2.2.1, fun u => by
        have := y3.2.1
        have := y3.1
        omega⟩) (by omega)
  rw [← eq] at x1 x2 x3
  generalize ar_q a k S = S4 at x1 x2 x3 hsm
  have f43 : ∀ x e, x = 43 ∨ x = 44 → (e < p1 ∨ p2 ≤ e) → S4.2 x e = S.2 x e := fun x e hx he => by
    rw [x3 x (by omega)]
    have r := e4 e (by omega)
    rcases hx with rfl | rfl
    · rw [r.1, b43, if_neg (by omega)]
    · rw [r.2, b44, if_neg (by omega)]
  have hk : ∀ e, kls S4 e = kls S3 e := fun e => by
    unfold kls
    rw [x3 34 (by omega), x3 35 (by omega)]
  have jv4 : ∀ j, jg_v S4 j = jg_v S j := fun j => by
    unfold jg_v
    rw [hsm.2 28 (by omega)]
  refine ⟨⟨?_, ?_, fun e r1 r2 => ⟨fun j x hj => ?_, ?_⟩, fun j r1 r2 => ?_⟩, fun x e hx he => ?_, fun x y hx hy => ?_⟩
  · rw [x3 43 (by omega), e2, b43, if_pos rfl, hsm.2 36 (by omega), hsm.2 22 (by omega), jv4]
  · rw [x3 44 (by omega), e3, b44, if_pos rfl]
  · rw [hk] at hj
    have := e1 e r1 (by omega) j x hj
    unfold ar_o at this ⊢
    rw [x3 43 (by omega), x3 44 (by omega), x3 36 (by omega), x3 32 (by omega), x3 33 (by omega), x3 22 (by omega)]
    exact this
  · rw [x1 e r1 (by omega), x3 34 (by omega)]
  · rw [jv4, x3 46 (by omega), x3 47 (by omega), e5 46 (by omega) (by omega), e5 47 (by omega) (by omega), bo 46 (by omega) (by omega), bo 47 (by omega) (by omega)]
    exact l46 j r1 (by omega)
  · rcases hx with rfl | rfl | rfl
    · exact f43 43 e (Or.inl rfl) he
    · exact f43 44 e (Or.inr rfl) he
    · rw [x2 e (by omega), e5 45 (by omega) (by omega), bo 45 (by omega) (by omega), lo 45 (by omega) (by omega)]
  · have := l47 y (fun j b1 b2 => hy j b1 (by omega))
    rcases hx with rfl | rfl
    · rw [x3 46 (by omega), e5 46 (by omega) (by omega), bo 46 (by omega) (by omega), this.1]
    · rw [x3 47 (by omega), e5 47 (by omega) (by omega), bo 47 (by omega) (by omega), this.2]
/-- the left sides of a node name its variables, each once -/
theorem nf_inj {T : Nat → Int32} {n f a a' i o q q' p p' l l' : Nat} {S : MS} (h : nf T n S f a a' i o q q' p p' l l') : (∀ j, l ≤ j → j < l' → S.2 28 j = nI (jg_v S j) ∧ i ≤ jg_v S j ∧ a + jg_v S j < a') ∧ ∀ j j', l ≤ j → j < l' → l ≤ j' → j' < l' → jg_v S j = jg_v S j' → j = j' := by
  obtain ⟨⟨a1, a2, a3, a4, a5, a6⟩, ⟨b1, b2, b3, b4, b5, b6, b7, b8, b9, b10, b11, b12, b13, b14⟩, ⟨P, L, ⟨c1, c2, c3, c4⟩, c5, c6⟩, d1, -, -, f2, -⟩ := h
  have hf31 : f < 2 ^ 31 := by omega
  have hj : ∀ j, l ≤ j → j < l' → S.2 28 j = nI (jg_v S j) ∧ i ≤ jg_v S j ∧ a + jg_v S j < a' := fun j j1 j2 => by
    obtain ⟨k, k1, k2, k3, k4⟩ := loc_k (P := L) (e := j) (q' - q) q (by rw [c3]; exact j1) (by rw [show q + (q' - q) = q' by omega, c4]; exact j2)
    obtain ⟨c, hW, -⟩ := c6 k k1 (by omega)
    obtain ⟨w1, w2, w3, w4, w5, w6, w7, w8, w9, w10, w11, w12, w13⟩ := hW
    obtain ⟨x, x1, x2, x3⟩ := w11 j k3 k4
    have x1 : S.2 28 j = nI x := x1
    rw [vw_i hf31, a3, jg_n, nI_clamp (by omega)] at x2
    rw [vw_a hf31, vw_v, a1, a2, jg_n, jg_n, nI_clamp (n := a) (by omega), nI_clamp (n := a') (by omega)] at x3
    have e : jg_v S j = x := by rw [jg_v, x1, nI_clamp (by omega)]
    rw [e]
    exact ⟨x1, x2, x3⟩
  refine ⟨hj, fun j j' j1 j2 j3 j4 he => ?_⟩
  obtain ⟨r1, r2, r3⟩ := hj j j1 j2
  obtain ⟨s1, s2, s3⟩ := hj j' j3 j4
  have hg := (f2 (a + jg_v S j) (by omega) r3).2.2 (by omega)
  exact gc_one (l' - l) hg j1 (by omega) j3 (by omega) (by omega) (by rw [show a + jg_v S j - a = jg_v S j by omega]; exact r1) (by rw [show a + jg_v S j - a = jg_v S j by omega, he]; exact s1)
