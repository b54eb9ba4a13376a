/-! rd_EB: a text of at most 3000 parts has at most 40000 causes -/
set_option maxRecDepth 100000
theorem sg_swap {f : Nat → Nat → Nat} {N i : Nat} : ∀ m p, sg (fun j => sg (f j) N i) m p = sg (fun t => sg (fun j => f j t) m p) N i := by
  intro m
  induction m with
  | zero => intro p; exact (sg_zero N i (fun _ _ _ => rfl)).symm
  | succ m ih =>
    intro p
    have e : sg (fun t => sg (fun j => f j t) (m + 1) p) N i = sg (fun t => sg (fun j => f j t) m p) N i + sg (fun t => f (p + m) t) N i := by
      rw [← sg_plus]
      rfl
    rw [e, sg, ih]
theorem sg_shift {g : Nat → Nat} : ∀ m p, sg g m p = sg (fun t => g (p + t)) m 0 := by
  intro m
  induction m with
  | zero => intro p; rfl
  | succ m ih =>
    intro p
    rw [sg, sg, ih]
    show _ + g (p + m) = _ + g (p + (0 + m))
    rw [Nat.zero_add]
theorem sg_list {F : Nat → Nat} : ∀ ks : List Nat, sg (fun t => F (ks.getD t 0)) ks.length 0 = (ks.map F).sum := by
  intro ks
  induction ks with
  | nil => rfl
  | cons k ks ih =>
    rw [List.length_cons, show ks.length + 1 = 1 + ks.length by omega, sg_add 1 ks.length 0, sg_shift ks.length, List.map_cons, List.sum_cons, ← ih]
    have e1 : sg (fun t => F ((k :: ks).getD t 0)) 1 0 = F k := by
      rw [sg, sg]
      show 0 + F k = F k
      exact Nat.zero_add _
    have e2 : (fun t => (fun t => F ((k :: ks).getD t 0)) (0 + 1 + t)) = fun t => F (ks.getD t 0) := by
      funext t
      show F ((k :: ks).getD (0 + 1 + t) 0) = _
      rw [show 0 + 1 + t = t + 1 by omega]
      rfl
    rw [e1, e2]
theorem sg_cst {c : Nat} : ∀ m p, sg (fun _ => c) m p = m * c := by
  intro m
  induction m with
  | zero => intro p; rw [sg, Nat.zero_mul]
  | succ m ih => intro p; rw [sg, ih, Nat.add_mul, Nat.one_mul]
/-- pairs onto the numbers from 1 on -/
theorem sg_onto2 {G : Nat → Nat} {φ : Nat → Nat → Nat} {n p : Nat → Nat} {N I : Nat} (h : ∀ y, 1 ≤ y → y < 1 + N → G y = 0 ∨ ∃ x e, x < I ∧ p x ≤ e ∧ e < p x + n x ∧ φ x e = y) : sg G N 1 ≤ sg (fun x => sg (fun e => G (φ x e)) (n x) (p x)) I 0 := by
  have k0 : ∀ x, sg (fun y => sg (fun e => if φ x e = y then G y else 0) (n x) (p x)) N 1 ≤ sg (fun e => G (φ x e)) (n x) (p x) := by
    intro x
    rw [← sg_swap (f := fun e y => if φ x e = y then G y else 0)]
    refine sg_le _ _ (fun e _ _ => ?_)
    refine Nat.le_trans (sg_le N 1 (fun y _ _ => ?_)) (sg_if (G := G) (t := φ x e) N 1)
    show (if φ x e = y then G y else 0) ≤ if y = φ x e then G (φ x e) else 0
    by_cases u : φ x e = y
    · rw [if_pos u, if_pos u.symm, u]
      exact Nat.le_refl _
    · rw [if_neg u]
      exact Nat.zero_le _
  have k1 : sg (fun y => sg (fun x => sg (fun e => if φ x e = y then G y else 0) (n x) (p x)) I 0) N 1 ≤ sg (fun x => sg (fun e => G (φ x e)) (n x) (p x)) I 0 := by
    rw [← sg_swap (f := fun x y => sg (fun e => if φ x e = y then G y else 0) (n x) (p x))]
    exact sg_le _ _ (fun x _ _ => k0 x)
  refine Nat.le_trans (sg_le N 1 (fun y h1 h2 => ?_)) k1
  rcases h y h1 h2 with u | ⟨x, e, x1, e1, e2, e3⟩
  · rw [u]; exact Nat.zero_le _
  · have a1 := sg_one (g := fun e => if φ x e = y then G y else 0) (j := e) (n x) (p x) e1 e2
    have a2 := sg_one (g := fun x => sg (fun e => if φ x e = y then G y else 0) (n x) (p x)) (j := x) I 0 (Nat.zero_le _) (by omega)
    rw [if_pos e3] at a1
    omega
/-- an injective map into a range -/
theorem sg_inj {φ : Nat → Nat} {m p N i : Nat} (h1 : ∀ j, p ≤ j → j < p + m → i ≤ φ j ∧ φ j < i + N) (h2 : ∀ j j', p ≤ j → j < p + m → p ≤ j' → j' < p + m → φ j = φ j' → j = j') : m ≤ N := by
  have a1 : sg (fun _ => 1) m p ≤ sg (fun j => sg (fun t => if φ j = t then 1 else 0) N i) m p := sg_le m p (fun j j1 j2 => by
    have := sg_one (g := fun t => if φ j = t then 1 else 0) (j := φ j) N i (h1 j j1 j2).1 (h1 j j1 j2).2
    rw [if_pos rfl] at this
    exact this)
  rw [sg_swap (f := fun j t => if φ j = t then 1 else 0)] at a1
  have a2 : sg (fun t => sg (fun j => if φ j = t then 1 else 0) m p) N i ≤ sg (fun _ => 1) N i := sg_le N i (fun t _ _ => by
    by_cases u : ∃ j0, p ≤ j0 ∧ j0 < p + m ∧ φ j0 = t
    · obtain ⟨j0, j1, j2, j3⟩ := u
      refine Nat.le_trans (sg_le m p (fun j q1 q2 => ?_)) (sg_if (G := fun _ => 1) (t := j0) m p)
      show (if φ j = t then 1 else 0) ≤ if j = j0 then 1 else 0
      by_cases v : φ j = t
      · rw [if_pos v, if_pos (h2 j j0 q1 q2 j1 j2 (v.trans j3.symm))]
        exact Nat.le_refl _
      · rw [if_neg v]; exact Nat.zero_le _
    · rw [sg_zero m p (fun j q1 q2 => if_neg (fun v => u ⟨j, q1, q2, v⟩))]
      exact Nat.zero_le _)
  rw [sg_cst, Nat.mul_one] at a1
  rw [sg_cst, Nat.mul_one] at a2
  omega
/-- the node of an instance, its expressions; the instance that a call puts in -/
def eb_m (S : MS) (x : Nat) : Nat := jg_n (S.2 56 x)
def eb_k (S : MS) (C : Nat → Nat) (x e : Nat) : Nat := if S.2 32 e = 3 then jg_n (S.2 62 (C x + jg_n (S.2 37 e))) else 0
section
variable {T : Nat → Int32} {n : Nat} {S : MS} {A Q P L B M C : Nat → Nat} {I : Nat}
theorem eb_x (h : rw_K T n S A Q P L) (hI : rw_I S I B M C) {x : Nat} (hx : x < I) : S.2 56 x = nI (eb_m S x) ∧ eb_m S x < pr_N S ∧ P (eb_m S x) ≤ P (eb_m S x + 1) := by
  obtain ⟨m, r1, r2, -⟩ := hI.2.1 x (Nat.zero_le _) hx
  have hN := rw_N h
  have e : eb_m S x = m := by unfold eb_m; rw [r1, jg_n, nI_clamp (by omega)]
  rw [e]
  refine ⟨r1, r2, ?_⟩
  obtain ⟨i, o, hn⟩ := h.1.2.1 m r2
  exact hn.2.1.2.2.2.2.2.2.2.2.2.2.2.2.1
theorem eb_kid (h : rw_K T n S A Q P L) (hI : rw_I S I B M C) {x e : Nat} (hx : x < I) (h1 : P (eb_m S x) ≤ e) (h2 : e < P (eb_m S x + 1)) (h3 : S.2 32 e = 3) : x < eb_k S C x e ∧ eb_k S C x e < I ∧ S.2 57 (eb_k S C x e) = nI x ∧ S.2 58 (eb_k S C x e) = nI e ∧ eb_m S (eb_k S C x e) = jg_n (S.2 33 e) ∧ jg_n (S.2 33 e) < eb_m S x := by
  obtain ⟨m1, m2, m3⟩ := eb_x h hI hx
  have hI3 : I ≤ 3200 := hI.1.2.2.2.2.2.2.1
  have hN := rw_N h
  obtain ⟨t, w, g, r1, r2, r3, r4, r5, r6, r7, r8, r9, r10, r11⟩ := rw_call h hI hx m1 m2 h1 h2 h3
  have ew : eb_k S C x e = w := by
    unfold eb_k
    rw [if_pos h3, r2, show jg_n (nI t) = t by rw [jg_n, nI_clamp (by omega)], r4, jg_n, nI_clamp (by omega)]
  have eg : jg_n (S.2 33 e) = g := by rw [r7, jg_n, nI_clamp (by omega)]
  rw [ew, eg]
  refine ⟨r5, r6, r10, r11, ?_, r8⟩
  unfold eb_m
  rw [r9, jg_n, nI_clamp (by omega)]
/-- the sum over the tree of what an instance puts in -/
theorem eb_s (h : rw_K T n S A Q P L) (hI : rw_I S I B M C) (g : Nat → Nat) {x : Nat} (hx : x < I) : ts g S (pr_N S) (eb_m S x) = g (eb_m S x) + sg (fun e => if S.2 32 e = 3 then ts g S (pr_N S) (eb_m S (eb_k S C x e)) else 0) (P (eb_m S x + 1) - P (eb_m S x)) (P (eb_m S x)) := by
  obtain ⟨m1, m2, m3⟩ := eb_x h hI hx
  obtain ⟨l1, l2⟩ := rw_lohi h m2
  obtain ⟨f, hf⟩ : ∃ f, pr_N S = f + 1 := ⟨pr_N S - 1, by omega⟩
  have e0 : ts g S (pr_N S) (eb_m S x) = g (eb_m S x) + ts_e (ts g S f) S (P (eb_m S x + 1) - P (eb_m S x)) (P (eb_m S x)) := by
    rw [hf, ts, l1, l2]
  rw [e0]
  congr 1
  have main : ∀ m e, P (eb_m S x) ≤ e → e + m ≤ P (eb_m S x + 1) → ts_e (ts g S f) S m e = sg (fun e => if S.2 32 e = 3 then ts g S (pr_N S) (eb_m S (eb_k S C x e)) else 0) m e := by
    intro m
    induction m with
    | zero => intro e _ _; rfl
    | succ m ih =>
      intro e h1 h2
      rw [ts_e, ih (e + 1) (by omega) (by omega), show m + 1 = 1 + m by omega, sg_add 1 m e]
      congr 1
      rw [sg, sg, Nat.zero_add, Nat.add_zero]
      show (if S.2 32 e = 3 then ts g S f (jg_n (S.2 33 e)) else 0) = if S.2 32 e = 3 then ts g S (pr_N S) (eb_m S (eb_k S C x e)) else 0
      by_cases u : S.2 32 e = 3
      · obtain ⟨k1, k2, k3, k4, k5, k6⟩ := eb_kid h hI hx h1 (by omega) u
        rw [if_pos u, if_pos u, k5]
        exact ts_fuel h.1 f (pr_N S) _ (by omega) (by omega) (by omega)
      · rw [if_neg u, if_neg u]
  exact main _ _ (Nat.le_refl _) (by omega)
/-- the sum over the instances -/
theorem eb_E (h : rw_K T n S A Q P L) (hI : rw_I S I B M C) (g : Nat → Nat) : ts g S (pr_N S) (pr_N S - 1) + sg (fun x => ts g S (pr_N S) (eb_m S x)) (I - 1) 1 = sg (fun x => g (eb_m S x)) I 0 + sg (fun x => sg (fun e => if S.2 32 e = 3 then ts g S (pr_N S) (eb_m S (eb_k S C x e)) else 0) (P (eb_m S x + 1) - P (eb_m S x)) (P (eb_m S x))) I 0 := by
  have h1 : 1 ≤ I := hI.1.2.2.2.2.2.2.2
  have hN := rw_N h
  have e0 : eb_m S 0 = pr_N S - 1 := by
    unfold eb_m
    rw [hI.2.2.2.2.2.1, jg_n, nI_clamp (by omega)]
  have e1 : sg (fun x => ts g S (pr_N S) (eb_m S x)) I 0 = ts g S (pr_N S) (pr_N S - 1) + sg (fun x => ts g S (pr_N S) (eb_m S x)) (I - 1) 1 := by
    have := sg_add (g := fun x => ts g S (pr_N S) (eb_m S x)) 1 (I - 1) 0
    rw [show 1 + (I - 1) = I by omega] at this
    rw [this]
    congr 1
    rw [sg, sg, Nat.zero_add]
    show ts g S (pr_N S) (eb_m S 0) = _
    rw [e0]
  rw [← e1, ← sg_plus]
  have key : ∀ m, m ≤ I → sg (fun x => ts g S (pr_N S) (eb_m S x)) m 0 = sg (fun x => g (eb_m S x) + sg (fun e => if S.2 32 e = 3 then ts g S (pr_N S) (eb_m S (eb_k S C x e)) else 0) (P (eb_m S x + 1) - P (eb_m S x)) (P (eb_m S x))) m 0 := by
    intro m
    induction m with
    | zero => intro _; rfl
    | succ m ih =>
      intro hm
      rw [sg, sg, ih (by omega), Nat.zero_add]
      congr 1
      exact eb_s h hI g (by omega)
  exact key I (Nat.le_refl _)
/-- every instance but the first is put in by a call -/
theorem eb_onto (h : rw_K T n S A Q P L) (hI : rw_I S I B M C) (hc : I = ts one1 S (pr_N S) (pr_N S - 1)) {y0 : Nat} (h1 : 1 ≤ y0) (h2 : y0 < I) : ∃ x e, x < I ∧ P (eb_m S x) ≤ e ∧ e < P (eb_m S x + 1) ∧ S.2 32 e = 3 ∧ eb_k S C x e = y0 := by
  refine Classical.byContradiction fun hno => ?_
  have hI3 : I ≤ 3200 := hI.1.2.2.2.2.2.2.1
  have E := eb_E h hI one1
  have e1 : sg (fun x => one1 (eb_m S x)) I 0 = I := by
    show sg (fun _ => 1) I 0 = I
    rw [sg_cst, Nat.mul_one]
  rw [e1, ← hc] at E
  have hs1 : ∀ y, y < I → 1 ≤ ts one1 S (pr_N S) (eb_m S y) := fun y hy => by
    rw [eb_s h hI one1 hy]
    show 1 ≤ 1 + _
    omega
  -- each is put in once at most, y0 never
  have a1 : sg (fun x => sg (fun e => if S.2 32 e = 3 then ts one1 S (pr_N S) (eb_m S (eb_k S C x e)) else 0) (P (eb_m S x + 1) - P (eb_m S x)) (P (eb_m S x))) I 0 ≤ sg (fun x => sg (fun y => sg (fun e => if S.2 32 e = 3 ∧ eb_k S C x e = y then ts one1 S (pr_N S) (eb_m S y) else 0) (P (eb_m S x + 1) - P (eb_m S x)) (P (eb_m S x))) (I - 1) 1) I 0 := by
    refine sg_le I 0 (fun x _ hx => ?_)
    obtain ⟨m1, m2, m3⟩ := eb_x h hI (x := x) (by omega)
    rw [← sg_swap (f := fun e y => if S.2 32 e = 3 ∧ eb_k S C x e = y then ts one1 S (pr_N S) (eb_m S y) else 0)]
    refine sg_le _ _ (fun e q1 q2 => ?_)
    by_cases u : S.2 32 e = 3
    · obtain ⟨k1, k2, -⟩ := eb_kid h hI (x := x) (e := e) (by omega) q1 (by omega) u
      have := sg_one (g := fun y => if S.2 32 e = 3 ∧ eb_k S C x e = y then ts one1 S (pr_N S) (eb_m S y) else 0) (j := eb_k S C x e) (I - 1) 1 (by omega) (by omega)
      rw [if_pos ⟨u, rfl⟩] at this
      show (if S.2 32 e = 3 then ts one1 S (pr_N S) (eb_m S (eb_k S C x e)) else 0) ≤ _
      rw [if_pos u]
      exact this
    · show (if S.2 32 e = 3 then ts one1 S (pr_N S) (eb_m S (eb_k S C x e)) else 0) ≤ _
      rw [if_neg u]
      exact Nat.zero_le _
  rw [sg_swap (f := fun x y => sg (fun e => if S.2 32 e = 3 ∧ eb_k S C x e = y then ts one1 S (pr_N S) (eb_m S y) else 0) (P (eb_m S x + 1) - P (eb_m S x)) (P (eb_m S x)))] at a1
  have a2 : sg (fun y => sg (fun x => sg (fun e => if S.2 32 e = 3 ∧ eb_k S C x e = y then ts one1 S (pr_N S) (eb_m S y) else 0) (P (eb_m S x + 1) - P (eb_m S x)) (P (eb_m S x))) I 0) (I - 1) 1 ≤ sg (fun y => if y = y0 then 0 else ts one1 S (pr_N S) (eb_m S y)) (I - 1) 1 := by
    refine sg_le _ _ (fun y y1 y2 => ?_)
    by_cases u : y = y0
    · show _ ≤ if y = y0 then 0 else ts one1 S (pr_N S) (eb_m S y)
      rw [if_pos u, sg_zero I 0 (fun x _ hx => sg_zero _ _ (fun e q1 q2 => ?_))]
      · exact Nat.le_refl _
      · refine if_neg (fun v => hno ⟨x, e, by omega, q1, ?_, v.1, v.2.trans u⟩)
        have := (eb_x h hI (x := x) (by omega)).2.2
        omega
    · show _ ≤ if y = y0 then 0 else ts one1 S (pr_N S) (eb_m S y)
      rw [if_neg u]
      -- the parent and the call are told by y
      refine Nat.le_trans (sg_le I 0 (fun x _ hx => ?_)) (sg_if (G := fun _ => ts one1 S (pr_N S) (eb_m S y)) (t := jg_n (S.2 57 y)) I 0)
      obtain ⟨m1, m2, m3⟩ := eb_x h hI (x := x) (by omega)
      show sg (fun e => if S.2 32 e = 3 ∧ eb_k S C x e = y then ts one1 S (pr_N S) (eb_m S y) else 0) _ _ ≤ if x = jg_n (S.2 57 y) then ts one1 S (pr_N S) (eb_m S y) else 0
      by_cases w : x = jg_n (S.2 57 y)
      · rw [if_pos w]
        refine Nat.le_trans (sg_le _ _ (fun e q1 q2 => ?_)) (sg_if (G := fun _ => ts one1 S (pr_N S) (eb_m S y)) (t := jg_n (S.2 58 y)) _ _)
        show (if S.2 32 e = 3 ∧ eb_k S C x e = y then ts one1 S (pr_N S) (eb_m S y) else 0) ≤ if e = jg_n (S.2 58 y) then ts one1 S (pr_N S) (eb_m S y) else 0
        by_cases v : S.2 32 e = 3 ∧ eb_k S C x e = y
        · obtain ⟨k1, k2, k3, k4, -⟩ := eb_kid h hI (x := x) (e := e) (by omega) q1 (by omega) v.1
          have he : e < 2 ^ 31 := by
            obtain ⟨i, o, hn⟩ := h.1.2.1 _ m2
            have := hn.2.1.2.2.2.2.2.2.2.1
            omega
          rw [v.2] at k4
          rw [if_pos v, if_pos (by rw [k4, jg_n, nI_clamp he])]
          exact Nat.le_refl _
        · rw [if_neg v]; exact Nat.zero_le _
      · rw [if_neg w, sg_zero _ _ (fun e q1 q2 => if_neg (fun v => w ?_))]
        · exact Nat.le_refl _
        · obtain ⟨k1, k2, k3, k4, -⟩ := eb_kid h hI (x := x) (e := e) (by omega) q1 (by omega) v.1
          rw [v.2] at k3
          rw [k3, jg_n, nI_clamp (by omega)]
  have a3 : sg (fun y => if y = y0 then 0 else ts one1 S (pr_N S) (eb_m S y)) (I - 1) 1 + 1 ≤ sg (fun y => ts one1 S (pr_N S) (eb_m S y)) (I - 1) 1 := by
    have b1 : sg (fun y => ts one1 S (pr_N S) (eb_m S y)) (I - 1) 1 = sg (fun y => (if y = y0 then 0 else ts one1 S (pr_N S) (eb_m S y)) + (if y = y0 then ts one1 S (pr_N S) (eb_m S y) else 0)) (I - 1) 1 := by
      congr 1
      funext y
      by_cases u : y = y0
      · rw [if_pos u, if_pos u, Nat.zero_add]
      · rw [if_neg u, if_neg u, Nat.add_zero]
    rw [b1, sg_plus]
    have b2 := sg_one (g := fun y => if y = y0 then ts one1 S (pr_N S) (eb_m S y) else 0) (j := y0) (I - 1) 1 h1 (by omega)
    rw [if_pos rfl] at b2
    have := hs1 y0 h2
    omega
  omega
theorem eb_g (h : rw_K T n S A Q P L) (hI : rw_I S I B M C) (hc : I = ts one1 S (pr_N S) (pr_N S - 1)) (g : Nat → Nat) : sg (fun x => g (eb_m S x)) I 0 ≤ ts g S (pr_N S) (pr_N S - 1) := by
  have E := eb_E h hI g
  have a1 : sg (fun x => ts g S (pr_N S) (eb_m S x)) (I - 1) 1 ≤ sg (fun x => sg (fun e => if S.2 32 e = 3 then ts g S (pr_N S) (eb_m S (eb_k S C x e)) else 0) (P (eb_m S x + 1) - P (eb_m S x)) (P (eb_m S x))) I 0 := by
    have b1 := sg_onto2 (G := fun y => if y = 0 then 0 else ts g S (pr_N S) (eb_m S y)) (φ := eb_k S C) (n := fun x => P (eb_m S x + 1) - P (eb_m S x)) (p := fun x => P (eb_m S x)) (N := I - 1) (I := I) (fun y h1 h2 => by
      obtain ⟨x, e, x1, e1, e2, e3, e4⟩ := eb_onto h hI hc (y0 := y) h1 (by omega)
      exact Or.inr ⟨x, e, x1, e1, by show e < P (eb_m S x) + (P (eb_m S x + 1) - P (eb_m S x)); omega, e4⟩)
    refine Nat.le_trans (sg_le _ _ (fun y y1 _ => ?_)) (Nat.le_trans b1 (sg_le I 0 (fun x _ hx => sg_le _ _ (fun e q1 q2 => ?_))))
    · show ts g S (pr_N S) (eb_m S y) ≤ if y = 0 then 0 else ts g S (pr_N S) (eb_m S y)
      rw [if_neg (by omega)]
      exact Nat.le_refl _
    · show (if eb_k S C x e = 0 then 0 else ts g S (pr_N S) (eb_m S (eb_k S C x e))) ≤ if S.2 32 e = 3 then ts g S (pr_N S) (eb_m S (eb_k S C x e)) else 0
      by_cases u : S.2 32 e = 3
      · rw [if_pos u]
        split
        · exact Nat.zero_le _
        · exact Nat.le_refl _
      · have : eb_k S C x e = 0 := by unfold eb_k; rw [if_neg u]
        rw [if_pos this]
        exact Nat.zero_le _
  omega
theorem cl_b_aw {y b : Nat} {i : Int32} : (cl_b S y b i).length = aw_f S y b := by
  unfold cl_b aw_f
  by_cases u : S.2 32 b = 3
  · rw [if_pos u, el, if_neg (by rw [u]; decide), if_pos u]
    rfl
  · rw [if_neg u]
/-- what the arguments of an instance's inputs cost -/
def eb_in (S : MS) (x : Nat) : Nat := if S.2 57 x < 0 then 0 else aw S (jg_n (S.2 57 x)) (jg_n (S.2 58 x))
theorem eb_one (h : rw_K T n S A Q P L) (hI : rw_I S I B M C) {x : Nat} (hx : x < I) : sg (fun t => (cl_v S (B x + t)).length) (vcn S (eb_m S x)) 0 ≤ vcn S (eb_m S x) + (eb_in S x + sg (ls_g S (A (eb_m S x)) x) (vcn S (eb_m S x) - jg_n (S.2 13 (eb_m S x))) (jg_n (S.2 13 (eb_m S x)))) := by
  obtain ⟨m1, m2, m3⟩ := eb_x h hI hx
  have hI3 : I ≤ 3200 := hI.1.2.2.2.2.2.2.1
  have hN := rw_N h
  obtain ⟨m, r1, r2, r3, r4, r5, r6, r7, r8, r9⟩ := hI.2.1 x (Nat.zero_le _) hx
  have em : eb_m S x = m := by unfold eb_m; rw [r1, jg_n, nI_clamp (by omega)]
  rw [em] at m1 m2 m3 ⊢
  obtain ⟨i, o, hn⟩ := h.1.2.1 m m2
  obtain ⟨⟨a1, a2, a3, a4, a5, a6⟩, ⟨b1, b2, b3, b4, b5, b6, b7, b8, b9, b10, b11, b12, b13, b14⟩, -⟩ := id hn
  have ei : jg_n (S.2 13 m) = i := by rw [a3, jg_n, nI_clamp (by omega)]
  have ev : vcn S m = A (m + 1) - A m := by unfold vcn; rw [a1, a2, jg_n, jg_n, nI_clamp (by omega), nI_clamp (by omega)]
  rw [ei]
  have hiv : i ≤ vcn S m := by omega
  -- each variable
  have one : ∀ t, t < vcn S m → (cl_v S (B x + t)).length ≤ 1 + (if i ≤ t then ls_g S (A m) x t else if S.2 57 x < 0 then 0 else aw_f S (jg_n (S.2 57 x)) ((kls S (jg_n (S.2 58 x))).getD t 0)) := by
    intro t ht
    obtain ⟨g1, g2⟩ := r9 t ht
    have c1 : cv_x S (B x + t) = x := by unfold cv_x; rw [g1, jg_n, nI_clamp (by omega)]
    have c2 : cv_g S (B x + t) = m := by unfold cv_g; rw [c1, r1, jg_n, nI_clamp (by omega)]
    have c3 : cv_w S (B x + t) = A m + t := by unfold cv_w; rw [c2, a1, g2, jg_n, jg_n, nI_clamp (by omega), nI_clamp (by omega)]
    unfold cl_v
    rw [c1, c2, c3, g2, a3, List.length_append]
    have d1 : (cl_c S x (S.2 22 (A m + t))).length ≤ 1 := by
      unfold cl_c
      split
      · exact Nat.zero_le _
      · exact Nat.le_refl _
    have d2 : (nI i ≤ nI t) ↔ i ≤ t := nI_leI (by omega) (by omega)
    by_cases u : i ≤ t
    · rw [if_pos (d2.2 u), if_pos u]
      have := cl_b_le (S := S) (x := x) (b := jg_n (S.2 27 (jg_n (S.2 46 (A m + t))))) (i := S.2 47 (A m + t))
      unfold ls_g
      omega
    · rw [if_neg (fun v => u (d2.1 v)), if_neg u]
      by_cases w : S.2 57 x < 0
      · rw [if_pos w, if_pos w, List.length_nil]
        omega
      · rw [if_neg w, if_neg w, cl_b_aw, show jg_n (nI t) = t by rw [jg_n, nI_clamp (by omega)]]
        omega
  have s1 := sg_le (g := fun t => (cl_v S (B x + t)).length) (g' := fun t => 1 + (if i ≤ t then ls_g S (A m) x t else if S.2 57 x < 0 then 0 else aw_f S (jg_n (S.2 57 x)) ((kls S (jg_n (S.2 58 x))).getD t 0))) (vcn S m) 0 (fun t _ ht => one t (by omega))
  have s2 := sg_plus (g := fun _ => 1) (g' := fun t => if i ≤ t then ls_g S (A m) x t else if S.2 57 x < 0 then 0 else aw_f S (jg_n (S.2 57 x)) ((kls S (jg_n (S.2 58 x))).getD t 0)) (vcn S m) 0
  rw [s2, sg_cst, Nat.mul_one] at s1
  have s3 := sg_add (g := fun t => if i ≤ t then ls_g S (A m) x t else if S.2 57 x < 0 then 0 else aw_f S (jg_n (S.2 57 x)) ((kls S (jg_n (S.2 58 x))).getD t 0)) i (vcn S m - i) 0
  rw [show i + (vcn S m - i) = vcn S m by omega, Nat.zero_add] at s3
  have s4 : sg (fun t => if i ≤ t then ls_g S (A m) x t else if S.2 57 x < 0 then 0 else aw_f S (jg_n (S.2 57 x)) ((kls S (jg_n (S.2 58 x))).getD t 0)) (vcn S m - i) i ≤ sg (ls_g S (A m) x) (vcn S m - i) i := sg_le _ _ (fun t t1 _ => by
    show (if i ≤ t then ls_g S (A m) x t else _) ≤ _
    rw [if_pos t1]
    exact Nat.le_refl _)
  have s5 : sg (fun t => if i ≤ t then ls_g S (A m) x t else if S.2 57 x < 0 then 0 else aw_f S (jg_n (S.2 57 x)) ((kls S (jg_n (S.2 58 x))).getD t 0)) i 0 ≤ eb_in S x := by
    unfold eb_in
    by_cases w : S.2 57 x < 0
    · rw [if_pos w, sg_zero i 0 (fun t _ t2 => by
        show (if i ≤ t then ls_g S (A m) x t else if S.2 57 x < 0 then 0 else _) = 0
        rw [if_neg (by omega), if_pos w])]
      exact Nat.le_refl _
    · rw [if_neg w]
      obtain ⟨y, e, m', q1, q2, q3, q4, q5, q6, q7, q8, q9, q10, q11, q12, q13, -⟩ := rw_arg h hI hx m1 m2 w (t := 0) (by rw [ei]; omega)
      have ey : jg_n (S.2 57 x) = y := by rw [q2, jg_n, nI_clamp (by omega)]
      have ee : jg_n (S.2 58 x) = e := by rw [q3, jg_n, nI_clamp (by omega)]
      rw [ei] at q13
      rw [ey, ee]
      unfold aw
      rw [if_pos q9, ← sg_list (F := aw_f S y), q13]
      refine sg_le i 0 (fun t _ t2 => ?_)
      show (if i ≤ t then ls_g S (A m) x t else if S.2 57 x < 0 then 0 else aw_f S y ((kls S e).getD t 0)) ≤ _
      rw [if_neg (by omega), if_neg w]
      exact Nat.le_refl _
  omega
theorem aws_sg {y : Nat} : ∀ m p, aws S y m p = sg (aw S y) m p := by
  intro m
  induction m with
  | zero => intro p; rfl
  | succ m ih => intro p; rw [aws, sg, ih]
theorem ce_sg : ∀ v, ce S v = sg (fun v => (cl_v S v).length) v 0 := by
  intro v
  induction v with
  | zero => rfl
  | succ v ih => rw [ce, sg, ih, Nat.zero_add]
theorem rd_EB_ok : rd_EB := by
  intro T n S A Q P L B M C I h hI hc h3
  have hI3 : I ≤ 3200 := hI.1.2.2.2.2.2.2.1
  have hB6 : B I ≤ 6000 := hI.1.2.2.2.1
  have hN := rw_N h
  have hB : ∀ x, x < I → B (x + 1) = B x + vcn S (eb_m S x) := fun x hx => by
    obtain ⟨m, r1, r2, r3, r4, r5, r6, -⟩ := hI.2.1 x (Nat.zero_le _) hx
    have em : eb_m S x = m := by unfold eb_m; rw [r1, jg_n, nI_clamp (by omega)]
    rw [em]; exact r6
  -- variables by instances
  have e1 : ∀ (g : Nat → Nat) m, m ≤ I → sg g (B m) 0 = sg (fun x => sg (fun t => g (B x + t)) (vcn S (eb_m S x)) 0) m 0 := by
    intro g m
    induction m with
    | zero => intro _; rw [hI.1.1]; rfl
    | succ m ih =>
      intro hm
      rw [hB m (by omega), sg_add (B m) _ 0, ih (by omega), sg, Nat.zero_add, Nat.zero_add, sg_shift (g := g) (vcn S (eb_m S m))]
  have e2 : sg (fun x => vcn S (eb_m S x)) I 0 = B I := by
    have := e1 (fun _ => 1) I (Nat.le_refl _)
    rw [sg_cst, Nat.mul_one] at this
    rw [this]
    congr 1
    funext x
    rw [sg_cst, Nat.mul_one]
  rw [ce_sg, e1 _ I (Nat.le_refl _)]
  have s1 := sg_le (g := fun x => sg (fun t => (cl_v S (B x + t)).length) (vcn S (eb_m S x)) 0) (g' := fun x => vcn S (eb_m S x) + (eb_in S x + sg (ls_g S (A (eb_m S x)) x) (vcn S (eb_m S x) - jg_n (S.2 13 (eb_m S x))) (jg_n (S.2 13 (eb_m S x))))) I 0 (fun x _ hx => eb_one h hI (by omega))
  rw [sg_plus, sg_plus, e2] at s1
  -- the inputs
  have s2 : sg (eb_in S) I 0 ≤ sg (fun x => aws S x (P (eb_m S x + 1) - P (eb_m S x)) (P (eb_m S x))) I 0 := by
    have h1 : 1 ≤ I := hI.1.2.2.2.2.2.2.2
    have a1 := sg_add (g := eb_in S) 1 (I - 1) 0
    rw [show 1 + (I - 1) = I by omega] at a1
    have a2 : sg (eb_in S) 1 0 = 0 := by
      rw [sg, sg]
      show 0 + eb_in S 0 = 0
      unfold eb_in
      rw [if_pos (by rw [hI.2.2.2.2.1]; decide)]
    rw [a1, a2, Nat.zero_add, Nat.zero_add]
    have b1 := sg_onto2 (G := fun y => if y = 0 then 0 else eb_in S y) (φ := eb_k S C) (n := fun x => P (eb_m S x + 1) - P (eb_m S x)) (p := fun x => P (eb_m S x)) (N := I - 1) (I := I) (fun y h1 h2 => by
      obtain ⟨x, e, x1, e1, e2, e3, e4⟩ := eb_onto h hI hc (y0 := y) h1 (by omega)
      exact Or.inr ⟨x, e, x1, e1, by show e < P (eb_m S x) + (P (eb_m S x + 1) - P (eb_m S x)); omega, e4⟩)
    refine Nat.le_trans (sg_le _ _ (fun y y1 _ => ?_)) (Nat.le_trans b1 (sg_le I 0 (fun x _ hx => ?_)))
    · show eb_in S y ≤ if y = 0 then 0 else eb_in S y
      rw [if_neg (by omega)]
      exact Nat.le_refl _
    · show sg (fun e => if eb_k S C x e = 0 then 0 else eb_in S (eb_k S C x e)) (P (eb_m S x + 1) - P (eb_m S x)) (P (eb_m S x)) ≤ aws S x (P (eb_m S x + 1) - P (eb_m S x)) (P (eb_m S x))
      rw [aws_sg]
      refine sg_le _ _ (fun e q1 q2 => ?_)
      show (if eb_k S C x e = 0 then 0 else eb_in S (eb_k S C x e)) ≤ aw S x e
      by_cases u : S.2 32 e = 3
      · obtain ⟨m1, m2, m3⟩ := eb_x h hI (x := x) (by omega)
        obtain ⟨k1, k2, k3, k4, -⟩ := eb_kid h hI (x := x) (e := e) (by omega) q1 (by omega) u
        have he : e < 2 ^ 31 := by
          obtain ⟨i, o, hn⟩ := h.1.2.1 _ m2
          have := hn.2.1.2.2.2.2.2.2.2.1
          omega
        rw [if_neg (by omega)]
        unfold eb_in
        rw [k3, k4, if_neg (nI_pos (by omega)), jg_n, jg_n, nI_clamp (by omega), nI_clamp he]
        exact Nat.le_refl _
      · have : eb_k S C x e = 0 := by unfold eb_k; rw [if_neg u]
        rw [if_pos this]
        exact Nat.zero_le _
  -- what the equations cost
  have s3 : sg (fun x => aws S x (P (eb_m S x + 1) - P (eb_m S x)) (P (eb_m S x)) + sg (ls_g S (A (eb_m S x)) x) (vcn S (eb_m S x) - jg_n (S.2 13 (eb_m S x))) (jg_n (S.2 13 (eb_m S x)))) I 0 ≤ sg (fun x => vcn S (eb_m S x) + own_p S (eb_m S x)) I 0 := by
    refine sg_le I 0 (fun x _ hx => ?_)
    obtain ⟨m1, m2, m3⟩ := eb_x h hI (x := x) (by omega)
    have r := rw_defs (x := x) h m2
    obtain ⟨i, o, hn⟩ := h.1.2.1 _ m2
    obtain ⟨⟨a1, a2, a3, a4, a5, a6⟩, ⟨b1, b2, b3, b4, b5, b6, b7, b8, b9, b10, b11, b12, b13, b14⟩, -⟩ := id hn
    obtain ⟨hj, hinj⟩ := nf_inj hn
    have ev : vcn S (eb_m S x) = A (eb_m S x + 1) - A (eb_m S x) := by unfold vcn; rw [a1, a2, jg_n, jg_n, nI_clamp (by omega), nI_clamp (by omega)]
    have hL : L (eb_m S x + 1) - L (eb_m S x) ≤ vcn S (eb_m S x) := by
      rw [ev]
      refine sg_inj (φ := jg_v S) (p := L (eb_m S x)) (i := 0) (fun j j1 j2 => ?_) (fun j j' j1 j2 j3 j4 e => hinj j j' j1 (by omega) j3 (by omega) e)
      have := (hj j j1 (by omega)).2.2
      omega
    have hO : P (eb_m S x + 1) - P (eb_m S x) ≤ own_p S (eb_m S x) := by
      obtain ⟨l1, l2⟩ := rw_lohi h m2
      unfold own_p
      rw [l1, l2]
      omega
    show aws S x (P (eb_m S x + 1) - P (eb_m S x)) (P (eb_m S x)) + sg (ls_g S (A (eb_m S x)) x) (vcn S (eb_m S x) - jg_n (S.2 13 (eb_m S x))) (jg_n (S.2 13 (eb_m S x))) ≤ vcn S (eb_m S x) + own_p S (eb_m S x)
    omega
  rw [sg_plus, sg_plus, e2] at s3
  have s4 := eb_g h hI hc (own_p S)
  have s2' : sg (fun x => eb_in S x) I 0 ≤ sg (fun x => aws S x (P (eb_m S x + 1) - P (eb_m S x)) (P (eb_m S x))) I 0 := s2
  omega
end
