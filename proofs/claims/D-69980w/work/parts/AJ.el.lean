/-! the causes that an expression names, by recursion over its parts -/
set_option maxRecDepth 100000
def el (S : MS) (y : Nat) : Nat → Nat → List Int32
  | 0, _ => []
  | f + 1, e =>
    if S.2 32 e = 2 then [S.2 59 y + S.2 33 e]
    else if S.2 32 e = 3 then [pcs_o S y e]
    else if S.2 32 e = 24 then []
    else if S.2 32 e = 6 then el S y f ((kls S e).getD 0 0)
    else if S.2 32 e = 26 then (kls S e).flatMap (el S y f) ++ [S.2 59 y + S.2 33 e / 2]
    else if S.2 32 e = 25 then (kls S e).flatMap (el S y f) ++ [S.2 59 y + S.2 43 ((kls S e).getD 0 0) / 2]
    else (kls S e).flatMap (el S y f)
theorem cz_p_add {S : MS} {x root m2 : Nat} : ∀ m e, cz_p S x root (m + m2) e = cz_p S x root m e ++ cz_p S x root m2 (e + m) := by
  intro m
  induction m with
  | zero => intro e; rw [Nat.zero_add]; rfl
  | succ m ih =>
    intro e
    rw [show m + 1 + m2 = (m + m2) + 1 by omega, cz_p, cz_p, ih (e + 1), List.append_assoc, show e + 1 + m = e + (m + 1) by omega]
theorem cz_p_nil {S : MS} {x root : Nat} : ∀ m e, (∀ y, e ≤ y → y < e + m → S.2 44 y ≠ nI root) → cz_p S x root m e = [] := by
  intro m
  induction m with
  | zero => intro e _; rfl
  | succ m ih =>
    intro e h
    rw [cz_p, ih (e + 1) (fun y a b => h y (by omega) (by omega)), cz_e, if_neg (h e (Nat.le_refl _) (by omega))]
    rfl
/-- the parts' lists, one behind the other -/
def ksum (F : Nat → Nat → List Int32) : Nat → List Nat → List Int32
  | _, [] => []
  | j, x :: xs => F j x ++ ksum F (j + 1) xs
theorem ksum_cg {F G : Nat → Nat → List Int32} : ∀ (ks : List Nat) (j : Nat), (∀ i x, ks[i]? = some x → F (j + i) x = G (j + i) x) → ksum F j ks = ksum G j ks
  | [], _, _ => rfl
  | x :: xs, j, h => by
    have h0 := h 0 x rfl
    rw [Nat.add_zero] at h0
    rw [ksum, ksum, h0, ksum_cg (F := F) (G := G) xs (j + 1) (fun i y hy => by
      have := h (i + 1) y (by simpa using hy)
      rw [show j + 1 + i = j + (i + 1) by omega]
      exact this)]
theorem ksum_flat {G : Nat → List Int32} : ∀ (ks : List Nat) (j : Nat), ksum (fun _ x => G x) j ks = ks.flatMap G
  | [], _ => rfl
  | x :: xs, j => by rw [ksum, ksum_flat xs (j + 1), List.flatMap_cons]
theorem ksum_nil : ∀ (ks : List Nat) (j : Nat), ksum (fun _ _ => []) j ks = []
  | [], _ => rfl
  | x :: xs, j => by rw [ksum, ksum_nil xs (j + 1), List.append_nil]
theorem cz_kids {S : MS} {y root e : Nat} {L : Nat → Nat} : ∀ (ks : List Nat) (l j : Nat), pw_k L l ks e → cz_p S y root (e - l) l = ksum (fun _ x => cz_p S y root (x + 1 - L x) (L x)) j ks
  | [], l, j, h => by
    have : l = e := h
    rw [this, Nat.sub_self]
    rfl
  | x :: xs, l, j, h => by
    obtain ⟨h1, h2, h3, h4⟩ := h
    rw [ksum, ← cz_kids xs (x + 1) (j + 1) h4, h1, show e - l = (x + 1 - l) + (e - (x + 1)) by omega, cz_p_add, show l + (x + 1 - l) = x + 1 by omega]
section
variable {S : MS} {a lo hi : Nat}
/-- the parts below e are e's, or lie below e -/
theorem part_in (hpt : pt S lo hi) (hfu : ∀ e, lo ≤ e → e < hi → fu_e S a e) : ∀ m e y, e < m → lo ≤ e → e < hi → lw (S.2 34) e ≤ y → y ≤ e → S.2 44 y = S.2 44 e ∨ ∃ w, S.2 44 y = nI w ∧ w < e := by
  intro m
  induction m with
  | zero => intro e y h; omega
  | succ m ih =>
    intro e y h1 h2 h3 h4 h5
    rcases Nat.lt_or_ge y e with u | u
    · obtain ⟨g1, g2⟩ := (hpt e h2 h3).2
      obtain ⟨x, x1, x2, x3⟩ := pw_k_in _ _ y g2 h4 u
      have hm := (pw_k_mem _ _ g2).2 x x1
      have hlo := (hpt e h2 h3).1
      obtain ⟨j, hj⟩ := List.getElem?_of_mem x1
      have hx := (hfu e h2 h3 j x hj).2
      rcases ih x y (by omega) (by omega) (by omega) x2 x3 with r | ⟨w, w1, w2⟩
      · rw [r, hx]
        by_cases c : S.2 32 e = 24 ∨ S.2 32 e = 3 ∨ S.2 32 e = 6 ∧ j = 1
        · rw [if_pos c]
          exact Or.inr ⟨x, rfl, by omega⟩
        · rw [if_neg c]
          exact Or.inl rfl
      · exact Or.inr ⟨w, w1, by omega⟩
    · have : y = e := by omega
      rw [this]
      exact Or.inl rfl
theorem cz_el (hpt : pt S lo hi) (hhi : hi < 2 ^ 30) (hfu : ∀ e, lo ≤ e → e < hi → fu_e S a e) (hs : ∀ e, lo ≤ e → e < hi → (S.2 32 e = 2 → kls S e = []) ∧ (S.2 32 e = 6 → (kls S e).length = 2) ∧ (S.2 32 e = 25 → (kls S e).length = 1)) {y root : Nat} (hroot : root < 2 ^ 30) :
    ∀ m e f, e < m → lo ≤ e → e < hi → e ≤ root → S.2 44 e = nI root → e < f → cz_p S y root (e + 1 - lw (S.2 34) e) (lw (S.2 34) e) = if e = root ∧ S.2 32 e = 3 then [] else el S y f e := by
  intro m
  induction m with
  | zero => intro e f h; omega
  | succ m ih =>
    intro e f h1 h2 h3 h4 h5 h6
    obtain ⟨f, rfl⟩ : ∃ f', f = f' + 1 := ⟨f - 1, by omega⟩
    obtain ⟨g1, g2⟩ := (hpt e h2 h3).2
    have hlo := (hpt e h2 h3).1
    have hle := (pw_k_mem _ _ g2).1
    have hmem := (pw_k_mem _ _ g2).2
    have hsplit : cz_p S y root (e + 1 - lw (S.2 34) e) (lw (S.2 34) e) = ksum (fun _ x => cz_p S y root (x + 1 - lw (S.2 34) x) (lw (S.2 34) x)) 0 (kls S e) ++ cz_e S y root e := by
      rw [show e + 1 - lw (S.2 34) e = (e - lw (S.2 34) e) + 1 by omega, cz_p_add, cz_kids _ _ 0 g2, show lw (S.2 34) e + (e - lw (S.2 34) e) = e by omega, cz_p, cz_p, List.append_nil]
    have own : ∀ j x, (kls S e)[j]? = some x → (S.2 32 e = 24 ∨ S.2 32 e = 3 ∨ S.2 32 e = 6 ∧ j = 1) → cz_p S y root (x + 1 - lw (S.2 34) x) (lw (S.2 34) x) = [] := by
      intro j x hj c
      have hx := List.mem_of_getElem? hj
      have hm := hmem x hx
      have h44 := (hfu e h2 h3 j x hj).2
      rw [if_pos c] at h44
      refine cz_p_nil _ _ (fun w w1 w2 u => ?_)
      have hlx : lw (S.2 34) x ≤ x := by
        obtain ⟨-, q2⟩ := (hpt x (by omega) (by omega)).2
        exact (pw_k_mem _ _ q2).1
      rcases part_in hpt hfu (x + 1) x w (by omega) (by omega) (by omega) w1 (by omega) with r | ⟨z, z1, z2⟩
      · rw [r, h44] at u
        have := (nI_eq (by omega) (by omega)).1 u
        omega
      · rw [z1] at u
        have := (nI_eq (by omega) (by omega)).1 u
        omega
    have oth : ∀ j x, (kls S e)[j]? = some x → ¬ (S.2 32 e = 24 ∨ S.2 32 e = 3 ∨ S.2 32 e = 6 ∧ j = 1) → cz_p S y root (x + 1 - lw (S.2 34) x) (lw (S.2 34) x) = el S y f x := by
      intro j x hj c
      have hx := List.mem_of_getElem? hj
      have hm := hmem x hx
      have h44 := (hfu e h2 h3 j x hj).2
      rw [if_neg c, h5] at h44
      rw [ih x f (by omega) (by omega) (by omega) (by omega) h44 (by omega), if_neg (fun u => by omega)]
    have flat : ¬ (S.2 32 e = 24 ∨ S.2 32 e = 3 ∨ S.2 32 e = 6) → ksum (fun _ x => cz_p S y root (x + 1 - lw (S.2 34) x) (lw (S.2 34) x)) 0 (kls S e) = (kls S e).flatMap (el S y f) := by
      intro c
      rw [← ksum_flat _ 0]
      refine ksum_cg _ _ (fun i x hx => oth i x hx (fun u => c (u.elim Or.inl (fun u => u.elim (fun u => Or.inr (Or.inl u)) (fun u => Or.inr (Or.inr u.1))))))
    have none' : (S.2 32 e = 24 ∨ S.2 32 e = 3) → ksum (fun _ x => cz_p S y root (x + 1 - lw (S.2 34) x) (lw (S.2 34) x)) 0 (kls S e) = [] := by
      intro c
      rw [← ksum_nil (kls S e) 0]
      refine ksum_cg _ _ (fun i x hx => own i x hx (c.elim Or.inl (fun u => Or.inr (Or.inl u))))
    obtain ⟨s2, s6, s25⟩ := hs e h2 h3
    rw [hsplit, el, cz_e, if_pos h5]
    by_cases k2 : S.2 32 e = 2
    · rw [if_pos k2, if_pos k2, s2 k2, if_neg (fun u : e = root ∧ S.2 32 e = 3 => by rw [k2] at u; exact absurd u.2 (by decide))]
      rfl
    · rw [if_neg k2, if_neg k2]
      by_cases k3 : S.2 32 e = 3
      · rw [none' (Or.inr k3), if_pos k3]
        by_cases kr : e = root
        · rw [if_neg (fun u : S.2 32 e = 3 ∧ ¬ e = root => u.2 kr), if_neg (by rw [k3]; decide), if_neg (by rw [k3]; decide), if_pos ⟨kr, k3⟩]
          rfl
        · rw [if_pos ⟨k3, kr⟩, if_neg (fun u : e = root ∧ S.2 32 e = 3 => kr u.1)]
          rfl
      · rw [if_neg (fun u : S.2 32 e = 3 ∧ ¬ e = root => k3 u.1), if_neg (fun u : e = root ∧ S.2 32 e = 3 => k3 u.2), if_neg k3]
        by_cases k24 : S.2 32 e = 24
        · rw [none' (Or.inl k24), if_pos k24, if_neg (by rw [k24]; decide), if_neg (by rw [k24]; decide)]
          rfl
        · rw [if_neg k24]
          by_cases k6 : S.2 32 e = 6
          · rw [if_pos k6, if_neg (by rw [k6]; decide), if_neg (by rw [k6]; decide), List.append_nil]
            have hl := s6 k6
            generalize hks : kls S e = ks at hl own oth
            match ks, hl with
            | [x0, x1], _ =>
              rw [ksum, ksum, ksum, oth 0 x0 rfl (fun u => u.elim k24 (fun u => u.elim k3 (fun u => absurd u.2 (by decide)))), own 1 x1 rfl (Or.inr (Or.inr ⟨k6, rfl⟩)), List.append_nil, List.append_nil]
              rfl
          · rw [if_neg k6, flat (fun u => u.elim k24 (fun u => u.elim k3 k6))]
            by_cases k26 : S.2 32 e = 26
            · rw [if_pos k26, if_pos k26]
            · rw [if_neg k26, if_neg k26]
              by_cases k25 : S.2 32 e = 25
              · rw [if_pos k25, if_pos k25]
                have hl := s25 k25
                generalize hks : kls S e = ks at hl g1
                match ks, hl with
                | [x0], _ =>
                  have e34 : S.2 34 e = nI x0 := g1.1
                  have hx0 := hmem x0 (by rw [hks]; exact List.mem_cons_self)
                  rw [e34, nI_clamp (by omega)]
                  rfl
              · rw [if_neg k25, if_neg k25, List.append_nil]
end
