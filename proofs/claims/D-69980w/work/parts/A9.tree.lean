/-! trees in postorder; what around leaves -/
set_option maxRecDepth 100000
/-- a place among the parts lies below one of them -/
theorem pw_k_in {L : Nat → Nat} {e : Nat} : ∀ (ks : List Nat) (l y : Nat), pw_k L l ks e → l ≤ y → y < e → ∃ k ∈ ks, L k ≤ y ∧ y ≤ k
  | [], l, y, h, h1, h2 => by
    have : l = e := h
    omega
  | k :: ks, l, y, h, h1, h2 => by
    obtain ⟨g1, g2, g3, g4⟩ := h
    rcases Nat.lt_or_ge k y with q | q
    · obtain ⟨x, x1, x2⟩ := pw_k_in ks (k + 1) y g4 q h2
      exact ⟨x, List.mem_cons_of_mem _ x1, x2⟩
    · exact ⟨k, List.mem_cons_self, by omega, q⟩
/-- parts lie apart -/
theorem pw_k_ap {L : Nat → Nat} {e : Nat} : ∀ (ks : List Nat) (l : Nat), pw_k L l ks e → ∀ x ∈ ks, ∀ y ∈ ks, L y ≤ x → x ≤ y → x = y
  | [], _, _, x, hx, _, _, _, _ => by cases hx
  | k :: ks, l, h, x, hx, y, hy, h1, h2 => by
    obtain ⟨g1, g2, g3, g4⟩ := h
    have hm := (pw_k_mem ks _ g4).2
    have hL : ∀ z ∈ ks, k + 1 ≤ L z := fun z hz => by
      have : ∀ (ks : List Nat) (l : Nat), pw_k L l ks e → ∀ z ∈ ks, l ≤ L z := by
        intro ks
        induction ks with
        | nil => intro l _ z hz; cases hz
        | cons w ks ih =>
          intro l h z hz
          obtain ⟨r1, r2, r3, r4⟩ := h
          rcases List.mem_cons.1 hz with e1 | hz
          · rw [e1]; omega
          · have := ih _ r4 z hz
            omega
      exact this ks _ g4 z hz
    rcases List.mem_cons.1 hx with e1 | hx
    · rcases List.mem_cons.1 hy with e2 | hy
      · rw [e1, e2]
      · have := hL y hy
        omega
    · rcases List.mem_cons.1 hy with e2 | hy
      · have := (hm x hx).1
        omega
      · exact pw_k_ap ks _ g4 x hx y hy h1 h2
/-- the trees from lo on below hi -/
def pt (S : MS) (lo hi : Nat) : Prop := ∀ e, lo ≤ e → e < hi → lo ≤ lw (S.2 34) e ∧ md_ch (S.2 35) (S.2 34 e) (kls S e) ∧ pw_k (lw (S.2 34)) (lw (S.2 34) e) (kls S e) e
theorem pw.pt {S : MS} {lo hi : Nat} (h : pw S lo hi) (hh : hi < 2 ^ 31) : pt S lo hi := fun e h1 h2 => by
  obtain ⟨g1, g2, g3⟩ := (h e h1 h2).2.kl (by omega)
  exact ⟨(h e h1 h2).1, g1, g2⟩
theorem pt.vw {S : MS} {f lo hi : Nat} (h : pt (vw S f) lo hi) : pt S lo hi := h
theorem pt.cg {S S' : MS} {lo hi : Nat} (h : pt S lo hi) (h34 : S'.2 34 = S.2 34) (h35 : S'.2 35 = S.2 35) : pt S' lo hi := by
  unfold pt kls
  rw [h34, h35]
  exact h
/-- subtrees lie in one another -/
theorem pw_lam {S : MS} {lo hi : Nat} (h : pt S lo hi) : ∀ m k y, k < m → lo ≤ k → k < hi → lw (S.2 34) k ≤ y → y ≤ k → lw (S.2 34) k ≤ lw (S.2 34) y := by
  intro m
  induction m with
  | zero => intro k y h; omega
  | succ m ih =>
    intro k y h1 h2 h3 h4 h5
    rcases Nat.lt_or_ge y k with q | q
    · obtain ⟨g1, g2⟩ := (h k h2 h3).2
      obtain ⟨x, x1, x2, x3⟩ := pw_k_in _ _ y g2 h4 q
      have hm := (pw_k_mem _ _ g2).2 x x1
      have hlo := (h k h2 h3).1
      have r := ih x y (by omega) (by omega) (by omega) x2 x3
      have : lw (S.2 34) k ≤ lw (S.2 34) x := by
        have : ∀ (ks : List Nat) (l : Nat), pw_k (lw (S.2 34)) l ks k → ∀ z ∈ ks, l ≤ lw (S.2 34) z := by
          intro ks
          induction ks with
          | nil => intro l _ z hz; cases hz
          | cons w ks ih =>
            intro l h z hz
            obtain ⟨r1, r2, r3, r4⟩ := h
            rcases List.mem_cons.1 hz with e1 | hz
            · rw [e1]; omega
            · have := ih _ r4 z hz
              omega
        exact this _ _ g2 x x1
      omega
    · have : y = k := by omega
      rw [this]
      exact Nat.le_refl _
/-- no expression is part of two -/
theorem pw_one {S : MS} {lo hi e e' x : Nat} (h : pt S lo hi) (h1 : lo ≤ e) (h2 : e < hi) (h3 : lo ≤ e') (h4 : e' < e) (hx : x ∈ kls S e) : ¬ x ∈ kls S e' := by
  intro hx'
  obtain ⟨g1, g2⟩ := (h e h1 h2).2
  obtain ⟨f1, f2⟩ := (h e' h3 (by omega)).2
  have m1 := (pw_k_mem _ _ g2).2 x hx
  have m2 := (pw_k_mem _ _ f2).2 x hx'
  rcases Nat.lt_or_ge e' (lw (S.2 34) e) with q | q
  · omega
  · obtain ⟨k, k1, k2, k3⟩ := pw_k_in _ _ e' g2 q h4
    have hm := (pw_k_mem _ _ g2).2 k k1
    have hlo := (h e h1 h2).1
    have := pw_lam h (k + 1) k e' (by omega) (by omega) (by omega) k2 k3
    have := pw_k_ap _ _ g2 x hx k k1 (by omega) (by omega)
    omega
/-! left sides -/
theorem gc_ex {B : Nat → Int32} {a v l : Nat} : ∀ m, 0 < gc B a v l m → ∃ j, l ≤ j ∧ j < l + m ∧ a ≤ v ∧ B j = nI (v - a) := by
  intro m
  induction m with
  | zero => intro h; exact absurd h (Nat.lt_irrefl 0)
  | succ m ih =>
    intro h
    rw [gc] at h
    by_cases q : a ≤ v ∧ B (l + m) = nI (v - a)
    · exact ⟨l + m, by omega, by omega, q.1, q.2⟩
    · rw [if_neg q] at h
      obtain ⟨j, j1, j2, j3⟩ := ih h
      exact ⟨j, j1, by omega, j3⟩
theorem gc_pos {B : Nat → Int32} {a v l j : Nat} : ∀ m, l ≤ j → j < l + m → a ≤ v → B j = nI (v - a) → 0 < gc B a v l m := by
  intro m
  induction m with
  | zero => intro h1 h2; omega
  | succ m ih =>
    intro h1 h2 h3 h4
    rw [gc]
    rcases Nat.lt_or_ge j (l + m) with q | q
    · have := ih h1 q h3 h4
      omega
    · have : j = l + m := by omega
      subst this
      rw [if_pos ⟨h3, h4⟩]
      omega
theorem gc_one {B : Nat → Int32} {a v l j j' : Nat} : ∀ m, gc B a v l m = 1 → l ≤ j → j < l + m → l ≤ j' → j' < l + m → a ≤ v → B j = nI (v - a) → B j' = nI (v - a) → j = j' := by
  intro m
  induction m with
  | zero => intro _ h1 h2; omega
  | succ m ih =>
    intro h h1 h2 h3 h4 hv e1 e2
    rw [gc] at h
    rcases Nat.lt_or_ge j (l + m) with q | q
    · rcases Nat.lt_or_ge j' (l + m) with q' | q'
      · have := gc_pos m h1 q hv e1
        by_cases u : a ≤ v ∧ B (l + m) = nI (v - a)
        · rw [if_pos u] at h; omega
        · rw [if_neg u] at h
          exact ih h h1 q h3 q' hv e1 e2
      · have := gc_pos m h1 q hv e1
        have ej : j' = l + m := by omega
        subst ej
        rw [if_pos ⟨hv, e2⟩] at h
        omega
    · rcases Nat.lt_or_ge j' (l + m) with q' | q'
      · have := gc_pos m h3 q' hv e2
        have ej : j = l + m := by omega
        subst ej
        rw [if_pos ⟨hv, e1⟩] at h
        omega
      · omega
/-! what around leaves of the parts of one expression -/
theorem ar_k_val {a e : Nat} {L : Nat → Nat} : ∀ xs l i S, pw_k L l xs e → (∀ j x, xs[j]? = some x → (ar_k a e xs i S).2 43 x = (if S.2 36 x = -2 then ar_o S a e else S.2 36 x) ∧ (ar_k a e xs i S).2 44 x = (if S.2 32 e = 24 ∨ S.2 32 e = 3 ∨ S.2 32 e = 6 ∧ i + j = 1 then nI x else S.2 44 e)) ∧
    (∀ y, ¬ y ∈ xs → (ar_k a e xs i S).2 43 y = S.2 43 y ∧ (ar_k a e xs i S).2 44 y = S.2 44 y) ∧ ∀ q, q ≠ 43 → q ≠ 44 → (ar_k a e xs i S).2 q = S.2 q := by
  intro xs
  induction xs with
  | nil => intro l i S _; exact ⟨fun j x h => by simp at h, fun _ _ => ⟨rfl, rfl⟩, fun _ _ _ => rfl⟩
  | cons x xs ih =>
    intro l i S h
    obtain ⟨h1, h2, h3, h4⟩ := h
    have hgt := (pw_k_mem xs _ h4).2
    have hx : ¬ x ∈ xs := fun u => by have := (hgt x u).1; omega
    have he : ¬ e ∈ xs := fun u => by have := (hgt e u).2; omega
    have hex : e ≠ x := by omega
    obtain ⟨g1, g2, g3⟩ := ih (x + 1) (i + 1) (ar_y (ar_x S a e x) e x i) h4
    have v43 : ∀ y, (ar_y (ar_x S a e x) e x i).2 43 y = if y = x then (if S.2 36 x = -2 then ar_o S a e else S.2 36 x) else S.2 43 y := fun y => by
      unfold ar_y ar_x
      rw [ml_sa_a, if_neg (by omega), ml_sa_a, if_pos rfl]
    have v44 : ∀ y, (ar_y (ar_x S a e x) e x i).2 44 y = if y = x then (if S.2 32 e = 24 ∨ S.2 32 e = 3 ∨ S.2 32 e = 6 ∧ i = 1 then nI x else S.2 44 e) else S.2 44 y := fun y => by
      unfold ar_y ar_x
      rw [ml_sa_a, if_pos rfl]
      rfl
    have vo : ∀ q, q ≠ 43 → q ≠ 44 → (ar_y (ar_x S a e x) e x i).2 q = S.2 q := fun q q1 q2 => by
      funext j
      unfold ar_y ar_x
      rw [ml_sa_a, if_neg q2, ml_sa_a, if_neg q1]
    have vao : ar_o (ar_y (ar_x S a e x) e x i) a e = ar_o S a e := by
      unfold ar_o
      rw [vo 32 (by omega) (by omega), vo 33 (by omega) (by omega), vo 22 (by omega) (by omega), v43 e, if_neg hex]
    refine ⟨fun j y hj => ?_, fun y hy => ?_, fun q q1 q2 => ?_⟩
    · cases j with
      | zero =>
        have hj' : x = y := by simpa using hj
        subst hj'
        obtain ⟨r1, r2⟩ := g2 x hx
        show (ar_k a e xs (i + 1) (ar_y (ar_x S a e x) e x i)).2 43 x = _ ∧ (ar_k a e xs (i + 1) (ar_y (ar_x S a e x) e x i)).2 44 x = _
        rw [r1, r2, v43, v44, if_pos rfl, if_pos rfl]
        exact ⟨rfl, rfl⟩
      | succ j =>
        have hj' : xs[j]? = some y := by simpa using hj
        obtain ⟨r1, r2⟩ := g1 j y hj'
        show (ar_k a e xs (i + 1) (ar_y (ar_x S a e x) e x i)).2 43 y = _ ∧ (ar_k a e xs (i + 1) (ar_y (ar_x S a e x) e x i)).2 44 y = _
        rw [r1, r2, vao, vo 36 (by omega) (by omega), vo 32 (by omega) (by omega), v44 e, if_neg hex, show i + 1 + j = i + (j + 1) by omega]
        exact ⟨rfl, rfl⟩
    · have hy1 : y ≠ x := fun u => hy (by rw [u]; exact List.mem_cons_self)
      have hy2 : ¬ y ∈ xs := fun u => hy (List.mem_cons_of_mem _ u)
      obtain ⟨r1, r2⟩ := g2 y hy2
      show (ar_k a e xs (i + 1) (ar_y (ar_x S a e x) e x i)).2 43 y = _ ∧ (ar_k a e xs (i + 1) (ar_y (ar_x S a e x) e x i)).2 44 y = _
      rw [r1, r2, v43, v44, if_neg hy1, if_neg hy1]
      exact ⟨rfl, rfl⟩
    · show (ar_k a e xs (i + 1) (ar_y (ar_x S a e x) e x i)).2 q = _
      rw [g3 q q1 q2, vo q q1 q2]
/-- the clocks and parts of the parts of e -/
def fu_e (S : MS) (a e : Nat) : Prop := ∀ j x, (kls S e)[j]? = some x → S.2 43 x = (if S.2 36 x = -2 then ar_o S a e else S.2 36 x) ∧ S.2 44 x = (if S.2 32 e = 24 ∨ S.2 32 e = 3 ∨ S.2 32 e = 6 ∧ j = 1 then nI x else S.2 44 e)
theorem ar_e_val {a p b : Nat} : ∀ m S, p + m ≤ b + 1 → pt S p (b + 1) → (∀ e, p + m ≤ e → e ≤ b → fu_e S a e) → (∀ e, p ≤ e → e ≤ b → fu_e (ar_e a p m S) a e) ∧ (ar_e a p m S).2 43 b = S.2 43 b ∧ (ar_e a p m S).2 44 b = S.2 44 b ∧ (∀ y, y < p ∨ b < y → (ar_e a p m S).2 43 y = S.2 43 y ∧ (ar_e a p m S).2 44 y = S.2 44 y) ∧ ∀ q, q ≠ 43 → q ≠ 44 → (ar_e a p m S).2 q = S.2 q := by
  intro m
  induction m with
  | zero => intro S _ _ h; exact ⟨fun e h1 h2 => h e (by omega) h2, rfl, rfl, fun _ _ => ⟨rfl, rfl⟩, fun _ _ _ => rfl⟩
  | succ m ih =>
    intro S hm hW h
    have hp1 : p + m < b + 1 := by omega
    obtain ⟨k1, k2⟩ := (hW (p + m) (by omega) hp1).2
    have hkm := (pw_k_mem _ _ k2).2
    have hlo := (hW (p + m) (by omega) hp1).1
    obtain ⟨g1, g2, g3⟩ := ar_k_val (a := a) (kls S (p + m)) _ 0 S k2
    have hsm := ar_k_same (a := a) (e := p + m) (kls S (p + m)) 0 S
    have hkl : ∀ e, kls (ar_k a (p + m) (kls S (p + m)) 0 S) e = kls S e := fun e => kls_same hsm e
    have hnin : ∀ y, p + m ≤ y → ¬ y ∈ kls S (p + m) := fun y hy u => by have := (hkm y u).2; omega
    have hao : ∀ e, p + m ≤ e → ar_o (ar_k a (p + m) (kls S (p + m)) 0 S) a e = ar_o S a e := fun e he => by
      unfold ar_o
      rw [g3 32 (by omega) (by omega), g3 33 (by omega) (by omega), g3 22 (by omega) (by omega), (g2 e (hnin e he)).1]
    have hW1 : pt (ar_k a (p + m) (kls S (p + m)) 0 S) p (b + 1) := hW.cg (g3 34 (by omega) (by omega)) (g3 35 (by omega) (by omega))
    obtain ⟨i1, i2, i3, i4, i5⟩ := ih (ar_k a (p + m) (kls S (p + m)) 0 S) (by omega) hW1 (fun e he1 he2 => by
      intro j x hj
      rw [hkl] at hj
      have hx := List.mem_of_getElem? hj
      rw [hao e he1, g3 36 (by omega) (by omega), g3 32 (by omega) (by omega)]
      rcases Nat.lt_or_ge (p + m) e with u | u
      · have hx2 := pw_one hW (e := e) (e' := p + m) (by omega) (by omega) (by omega) u hx
        rw [(g2 x hx2).1, (g2 x hx2).2, (g2 e (hnin e he1)).2]
        exact h e (by omega) he2 j x hj
      · have ee : e = p + m := by omega
        subst ee
        obtain ⟨r1, r2⟩ := g1 j x hj
        rw [r1, r2, (g2 _ (hnin _ (Nat.le_refl _))).2, Nat.zero_add]
        exact ⟨rfl, rfl⟩)
    refine ⟨i1, ?_, ?_, fun y hy => ?_, fun q q1 q2 => ?_⟩
    · show (ar_e a p m (ar_k a (p + m) (kls S (p + m)) 0 S)).2 43 b = _
      rw [i2, (g2 b (hnin b (by omega))).1]
    · show (ar_e a p m (ar_k a (p + m) (kls S (p + m)) 0 S)).2 44 b = _
      rw [i3, (g2 b (hnin b (by omega))).2]
    · have hy2 : ¬ y ∈ kls S (p + m) := fun u => by have := hkm y u; omega
      show (ar_e a p m (ar_k a (p + m) (kls S (p + m)) 0 S)).2 43 y = _ ∧ (ar_e a p m (ar_k a (p + m) (kls S (p + m)) 0 S)).2 44 y = _
      rw [(i4 y hy).1, (i4 y hy).2, (g2 y hy2).1, (g2 y hy2).2]
      exact ⟨rfl, rfl⟩
    · show (ar_e a p m (ar_k a (p + m) (kls S (p + m)) 0 S)).2 q = _
      rw [i5 q q1 q2, g3 q q1 q2]
theorem ar_w_val : ∀ m e S, (∀ x, e ≤ x → x < e + m → S.2 34 x < 0 ∨ ∃ k, S.2 34 x = nI k ∧ k < x ∧ (k < e → S.2 45 k = nI (lw (S.2 34) k))) → e + m < 2 ^ 31 → (∀ x, e ≤ x → x < e + m → (ar_w m e S).2 45 x = nI (lw (S.2 34) x)) ∧ (∀ x, x < e ∨ e + m ≤ x → (ar_w m e S).2 45 x = S.2 45 x) ∧ ∀ q, q ≠ 45 → (ar_w m e S).2 q = S.2 q := by
  intro m
  induction m with
  | zero => intro e S _ _; exact ⟨fun x a b => by omega, fun _ _ => rfl, fun _ _ => rfl⟩
  | succ m ih =>
    intro e S h hm
    generalize hS1 : ml_sa S 45 e (if S.2 34 e < 0 then nI e else S.2 45 (S.2 34 e).toNatClampNeg) = S1
    have v45 : ∀ x, S1.2 45 x = if x = e then nI (lw (S.2 34) e) else S.2 45 x := fun x => by
      rw [← hS1, ml_sa_a, if_pos rfl]
      by_cases u : x = e
      · rw [if_pos u, if_pos u]
        rcases h e (Nat.le_refl _) (by omega) with q | ⟨k, k1, k2, k3⟩
        · rw [if_pos q, lw_0 q]
        · rw [k1, if_neg (nI_pos (by omega)), nI_clamp (by omega), k3 k2, lw_1 k1 k2 (by omega)]
      · rw [if_neg u, if_neg u]
    have vo : ∀ q, q ≠ 45 → S1.2 q = S.2 q := fun q hq => by
      rw [← hS1]
      funext j
      rw [ml_sa_a, if_neg hq]
    obtain ⟨g1, g2, g3⟩ := ih (e + 1) S1 (fun x a b => by
      rw [vo 34 (by omega)]
      rcases h x (by omega) (by omega) with q | ⟨k, k1, k2, k3⟩
      · exact Or.inl q
      · refine Or.inr ⟨k, k1, k2, fun u => ?_⟩
        rw [v45]
        by_cases w : k = e
        · rw [if_pos w, w]
        · rw [if_neg w]
          exact k3 (by omega)) (by omega)
    have eS : ar_w (m + 1) e S = ar_w m (e + 1) S1 := by rw [← hS1]; rfl
    rw [eS]
    refine ⟨fun x a b => ?_, fun x hx => ?_, fun q hq => ?_⟩
    · rcases Nat.lt_or_ge e x with u | u
      · rw [g1 x u (by omega), vo 34 (by omega)]
      · have ex : x = e := by omega
        rw [g2 x (by omega), v45, if_pos ex, ex]
    · rw [g2 x (by omega), v45, if_neg (by omega)]
    · rw [g3 q hq, vo q hq]
theorem ar_l_val {a l k : Nat} : ∀ m i S, (∀ j j', i ≤ j → j < i + m → i ≤ j' → j' < i + m → jg_v S j = jg_v S j' → j = j') → (∀ j, i ≤ j → j < i + m → (ar_l a l k m i S).2 46 (a + jg_v S j) = nI k ∧ (ar_l a l k m i S).2 47 (a + jg_v S j) = nI (j - l)) ∧ (∀ y, (∀ j, i ≤ j → j < i + m → y ≠ a + jg_v S j) → (ar_l a l k m i S).2 46 y = S.2 46 y ∧ (ar_l a l k m i S).2 47 y = S.2 47 y) ∧ ∀ q, q ≠ 46 → q ≠ 47 → (ar_l a l k m i S).2 q = S.2 q := by
  intro m
  induction m with
  | zero => intro i S _; exact ⟨fun j a b => by omega, fun _ _ => ⟨rfl, rfl⟩, fun _ _ _ => rfl⟩
  | succ m ih =>
    intro i S hinj
    generalize hS1 : ml_sa (ml_sa S 46 (a + jg_v S i) (nI k)) 47 (a + jg_v S i) (nI (i - l)) = S1
    have eS : ar_l a l k (m + 1) i S = ar_l a l k m (i + 1) S1 := by rw [← hS1]; rfl
    have vo : ∀ q, q ≠ 46 → q ≠ 47 → S1.2 q = S.2 q := fun q q1 q2 => by
      rw [← hS1]
      funext j
      rw [ml_sa_a, if_neg q2, ml_sa_a, if_neg q1]
    have v46 : ∀ y, S1.2 46 y = if y = a + jg_v S i then nI k else S.2 46 y := fun y => by
      rw [← hS1, ml_sa_a, if_neg (by omega), ml_sa_a, if_pos rfl]
    have v47 : ∀ y, S1.2 47 y = if y = a + jg_v S i then nI (i - l) else S.2 47 y := fun y => by
      rw [← hS1, ml_sa_a, if_pos rfl]
      rfl
    have ej : ∀ j, jg_v S1 j = jg_v S j := fun j => by
      unfold jg_v
      rw [vo 28 (by omega) (by omega)]
    obtain ⟨g1, g2, g3⟩ := ih (i + 1) S1 (fun j j' a b c d e => hinj j j' (by omega) (by omega) (by omega) (by omega) (by rw [← ej, ← ej]; exact e))
    rw [eS]
    refine ⟨fun j a1 b1 => ?_, fun y hy => ?_, fun q q1 q2 => ?_⟩
    · rcases Nat.lt_or_ge i j with u | u
      · have := g1 j u (by omega)
        rw [ej] at this
        exact this
      · have e1 : j = i := by omega
        subst e1
        obtain ⟨r1, r2⟩ := g2 (a + jg_v S j) (fun j' c d e => by
          rw [ej] at e
          have := hinj j j' (by omega) (by omega) (by omega) (by omega) (by omega)
          omega)
        rw [r1, r2, v46, v47, if_pos rfl, if_pos rfl]
        exact ⟨rfl, rfl⟩
    · obtain ⟨r1, r2⟩ := g2 y (fun j c d => by rw [ej]; exact hy j (by omega) (by omega))
      rw [r1, r2, v46, v47, if_neg (hy i (Nat.le_refl _) (by omega)), if_neg (hy i (Nat.le_refl _) (by omega))]
      exact ⟨rfl, rfl⟩
    · rw [g3 q q1 q2, vo q q1 q2]
