/-! the constructor of the reference -/
set_option maxRecDepth 100000
/-- the object a0 as far as it is made: the arrays ks are there -/
def in_I (w : WD) (a0 : Nat) (G0 : GH) (b : Bool) (ks : List Nat) (G : GH) : Prop :=
  hp_kd G a0 = 1 ∧ hp_A w a0 ∧ (∀ k, hp_i G a0 k = if b = true ∧ k = 49 then -1 else 0) ∧
  (∀ k ∈ ks, ml_ar k ≠ 0 ∧ ∃ q, hp_r G a0 k = some q ∧ q ≠ a0 ∧ hp_kd G q = ml_ar k ∧ hp_ln G q = ml_len k ∧ hp_A w q ∧ ∀ j, hp_i G q j = 0) ∧
  (∀ k ∈ ks, ∀ k' ∈ ks, hp_r G a0 k = hp_r G a0 k' → k = k') ∧
  ∀ a, hp_kd G0 a ≠ 0 → a ≠ a0 → hp_kd G a = hp_kd G0 a ∧ hp_ln G a = hp_ln G0 a ∧ (∀ j, hp_i G a j = hp_i G0 a j) ∧ (∀ j, hp_r G a j = hp_r G0 a j) ∧ ∀ j, hp_l G a j = hp_l G0 a j
/-- a new array q for the field k -/
def in_P (w : WD) (a0 : Nat) (G0 : GH) (b : Bool) (ks : List Nat) (k q : Nat) (G : GH) : Prop :=
  in_I w a0 G0 b ks G ∧ q ≠ a0 ∧ hp_kd G q = ml_ar k ∧ hp_ln G q = ml_len k ∧ hp_A w q ∧ (∀ j, hp_i G q j = 0) ∧ ∀ k' ∈ ks, hp_r G a0 k' ≠ some q
section
variable {w : WD} {a0 : Nat} {G0 G : GH} {b : Bool} {ks : List Nat} {k q : Nat}
theorem in_new {c n : Nat} (h : in_I w a0 G0 b ks G) (h1 : hp_kd G q = 0) (h2 : hp_A w q) (h3 : ml_ar k = c) (h4 : ml_len k = n) : in_P w a0 G0 b ks k q (hp_nw G q c n) := by
  obtain ⟨g1, g2, g3, g4, g5, g6⟩ := h
  have ne : a0 ≠ q := fun e => by rw [e, h1] at g1; exact absurd g1 (by decide)
  have nk : ∀ k ∈ ks, ∀ x, hp_r G a0 k = some x → x ≠ q := fun k hk x hx e => by
    obtain ⟨r1, y, r2, r3, r4, -⟩ := g4 k hk
    rw [hx] at r2
    have := Option.some.inj r2
    rw [← this, e, h1] at r4
    exact r1 r4.symm
  refine ⟨⟨by rw [hp_kd_nw, if_neg ne]; exact g1, g2, fun k => by rw [hp_i_nw, if_neg ne]; exact g3 k, fun k hk => ?_, fun k hk k' hk' e => ?_, fun a ha hne => ?_⟩, fun e => ne e.symm, by rw [hp_kd_nw, if_pos rfl, h3], by rw [hp_ln_nw, if_pos rfl, h4], h2, fun j => by rw [hp_i_nw, if_pos rfl], fun k' hk' e => ?_⟩
  · obtain ⟨r1, y, r2, r3, r4, r5, r6, r7⟩ := g4 k hk
    have hy := nk k hk y r2
    exact ⟨r1, y, by rw [hp_r_nw, if_neg ne]; exact r2, r3, by rw [hp_kd_nw, if_neg hy]; exact r4, by rw [hp_ln_nw, if_neg hy]; exact r5, r6, fun j => by rw [hp_i_nw, if_neg hy]; exact r7 j⟩
  · rw [hp_r_nw, if_neg ne, hp_r_nw, if_neg ne] at e
    exact g5 k hk k' hk' e
  · obtain ⟨r1, r2, r3, r4, r5⟩ := g6 a ha hne
    have hq : a ≠ q := fun e => by rw [e, h1] at r1; rw [e] at ha; exact ha r1.symm
    exact ⟨by rw [hp_kd_nw, if_neg hq]; exact r1, by rw [hp_ln_nw, if_neg hq]; exact r2, fun j => by rw [hp_i_nw, if_neg hq]; exact r3 j, fun j => by rw [hp_r_nw, if_neg hq]; exact r4 j, fun j => by rw [hp_l_nw, if_neg hq]; exact r5 j⟩
  · rw [hp_r_nw, if_neg ne] at e
    exact nk k' hk' q e rfl
theorem in_put (h : in_P w a0 G0 b ks k q G) (h1 : ml_ar k ≠ 0) (h2 : ¬ k ∈ ks) : in_I w a0 G0 b (k :: ks) (hp_sR G a0 k (some q)) := by
  obtain ⟨⟨g1, g2, g3, g4, g5, g6⟩, p1, p2, p3, p4, p5, p6⟩ := h
  have rk : ∀ j, hp_r (hp_sR G a0 k (some q)) a0 j = if j = k then some q else hp_r G a0 j := fun j => by rw [hp_r_sR, if_pos rfl]
  have nk : ∀ j ∈ ks, j ≠ k := fun j hj e => h2 (e ▸ hj)
  refine ⟨g1, g2, g3, fun j hj => ?_, fun j hj j' hj' e => ?_, fun a ha hne => ?_⟩
  · rcases List.mem_cons.1 hj with u | u
    · subst u
      exact ⟨h1, q, by rw [rk, if_pos rfl], p1, p2, p3, p4, p5⟩
    · obtain ⟨r1, y, r2, r3⟩ := g4 j u
      exact ⟨r1, y, by rw [rk, if_neg (nk j u)]; exact r2, r3⟩
  · rw [rk, rk] at e
    rcases List.mem_cons.1 hj with u | u
    · rcases List.mem_cons.1 hj' with v | v
      · rw [u, v]
      · rw [if_pos u, if_neg (nk j' v)] at e
        exact absurd e.symm (p6 j' v)
    · rcases List.mem_cons.1 hj' with v | v
      · rw [if_neg (nk j u), if_pos v] at e
        exact absurd e (p6 j u)
      · rw [if_neg (nk j u), if_neg (nk j' v)] at e
        exact g5 j u j' v e
  · obtain ⟨r1, r2, r3, r4, r5⟩ := g6 a ha hne
    exact ⟨r1, r2, r3, fun j => by rw [hp_r_sR, if_neg hne]; exact r4 j, r5⟩
theorem in_set {v : Int32} {b' : Bool} (h : in_I w a0 G0 b ks G) (hv : ∀ j, (if j = k then v else if b = true ∧ j = 49 then -1 else 0) = if b' = true ∧ j = 49 then -1 else (0 : Int32)) : in_I w a0 G0 b' ks (hp_sI G a0 k v) := by
  obtain ⟨g1, g2, g3, g4, g5, g6⟩ := h
  refine ⟨g1, g2, fun j => ?_, fun j hj => ?_, g5, fun a ha hne => ?_⟩
  · rw [hp_i_sI, if_pos rfl, g3, hv]
  · obtain ⟨r1, y, r2, r3, r4, r5, r6, r7⟩ := g4 j hj
    exact ⟨r1, y, r2, r3, r4, r5, r6, fun j => by rw [hp_i_sI, if_neg r3]; exact r7 j⟩
  · obtain ⟨r1, r2, r3, r4, r5⟩ := g6 a ha hne
    exact ⟨r1, r2, fun j => by rw [hp_i_sI, if_neg hne]; exact r3 j, r4, r5⟩
theorem in_int (h : in_I w a0 G0 b ks G) (hk : k ≠ 49) : in_I w a0 G0 b ks (hp_sI G a0 k 0) := in_set h (fun j => by
  by_cases u : j = k
  · rw [if_pos u, if_neg (fun y => hk (u ▸ y.2))]
  · rw [if_neg u])
theorem in_m1 (h : in_I w a0 G0 false ks G) : in_I w a0 G0 true ks (hp_sI G a0 49 (-1)) := in_set h (fun j => by
  by_cases u : j = 49
  · rw [if_pos u, if_pos ⟨rfl, u⟩]
  · rw [if_neg u, if_neg (fun y => u y.2), if_neg (fun y => u y.2)])
theorem in_walk {j : JB} (hd : 1 ≤ j.1) (hP : ∀ G, in_I w a0 G0 true [81, 80, 79, 78, 77, 76, 75, 74, 73, 71, 70, 69, 68, 66, 65, 64, 63, 62, 61, 60, 59, 58, 57, 56, 48, 47, 46, 45, 44, 43, 41, 39, 38, 37, 36, 35, 34, 33, 32, 29, 28, 27, 26, 25, 24, 23, 22, 21, 20, 17, 16, 15, 14, 13, 12, 11, 10, 0] G → j.2.2.1 none G) (hG : in_I w a0 G0 false [] G) : wk_V w mX6_init j 0 [(0, vR (some a0))] [] G 105836 := by
  have s625 : ∀ G, in_I w a0 G0 true [81, 80, 79, 78, 77, 76, 75, 74, 73, 71, 70, 69, 68, 66, 65, 64, 63, 62, 61, 60, 59, 58, 57, 56, 48, 47, 46, 45, 44, 43, 41, 39, 38, 37, 36, 35, 34, 33, 32, 29, 28, 27, 26, 25, 24, 23, 22, 21, 20, 17, 16, 15, 14, 13, 12, 11, 10, 0] G → wk_V w mX6_init j 625 [(0, vR (some a0))] [] G 0 := fun G h => blX6_init_625 h.1 h.2.1 (hP _ (in_int h (by decide)))
  have s617 : ∀ G q, in_P w a0 G0 true [80, 79, 78, 77, 76, 75, 74, 73, 71, 70, 69, 68, 66, 65, 64, 63, 62, 61, 60, 59, 58, 57, 56, 48, 47, 46, 45, 44, 43, 41, 39, 38, 37, 36, 35, 34, 33, 32, 29, 28, 27, 26, 25, 24, 23, 22, 21, 20, 17, 16, 15, 14, 13, 12, 11, 10, 0] 81 q G → wk_V w mX6_init j 617 [(0, vR (some a0))] [vR (some q), vR (some a0)] G 0 := fun G q h => blX6_init_617 rfl h.1.1 h.1.2.1 h.1.1 h.1.2.1 (s625 _ (in_int (in_put h (by decide) (by decide)) (by decide)))
  have s608 : ∀ G q, in_P w a0 G0 true [79, 78, 77, 76, 75, 74, 73, 71, 70, 69, 68, 66, 65, 64, 63, 62, 61, 60, 59, 58, 57, 56, 48, 47, 46, 45, 44, 43, 41, 39, 38, 37, 36, 35, 34, 33, 32, 29, 28, 27, 26, 25, 24, 23, 22, 21, 20, 17, 16, 15, 14, 13, 12, 11, 10, 0] 80 q G → wk_V w mX6_init j 608 [(0, vR (some a0))] [vR (some q), vR (some a0)] G 509 := fun G q h => blX6_init_608 rfl h.1.1 h.1.2.1 (Nat.le_of_ble_eq_true rfl) (fun q' h1 h2 => s617 _ q' (in_new (in_put h (by decide) (by decide)) h1 h2 rfl rfl))
  have s599 : ∀ G q, in_P w a0 G0 true [78, 77, 76, 75, 74, 73, 71, 70, 69, 68, 66, 65, 64, 63, 62, 61, 60, 59, 58, 57, 56, 48, 47, 46, 45, 44, 43, 41, 39, 38, 37, 36, 35, 34, 33, 32, 29, 28, 27, 26, 25, 24, 23, 22, 21, 20, 17, 16, 15, 14, 13, 12, 11, 10, 0] 79 q G → wk_V w mX6_init j 599 [(0, vR (some a0))] [vR (some q), vR (some a0)] G 1018 := fun G q h => blX6_init_599 rfl h.1.1 h.1.2.1 (Nat.le_of_ble_eq_true rfl) (fun q' h1 h2 => s608 _ q' (in_new (in_put h (by decide) (by decide)) h1 h2 rfl rfl))
  have s590 : ∀ G q, in_P w a0 G0 true [77, 76, 75, 74, 73, 71, 70, 69, 68, 66, 65, 64, 63, 62, 61, 60, 59, 58, 57, 56, 48, 47, 46, 45, 44, 43, 41, 39, 38, 37, 36, 35, 34, 33, 32, 29, 28, 27, 26, 25, 24, 23, 22, 21, 20, 17, 16, 15, 14, 13, 12, 11, 10, 0] 78 q G → wk_V w mX6_init j 590 [(0, vR (some a0))] [vR (some q), vR (some a0)] G 1569 := fun G q h => blX6_init_590 rfl h.1.1 h.1.2.1 (Nat.le_of_ble_eq_true rfl) (fun q' h1 h2 => s599 _ q' (in_new (in_put h (by decide) (by decide)) h1 h2 rfl rfl))
  have s581 : ∀ G q, in_P w a0 G0 true [76, 75, 74, 73, 71, 70, 69, 68, 66, 65, 64, 63, 62, 61, 60, 59, 58, 57, 56, 48, 47, 46, 45, 44, 43, 41, 39, 38, 37, 36, 35, 34, 33, 32, 29, 28, 27, 26, 25, 24, 23, 22, 21, 20, 17, 16, 15, 14, 13, 12, 11, 10, 0] 77 q G → wk_V w mX6_init j 581 [(0, vR (some a0))] [vR (some q), vR (some a0)] G 2078 := fun G q h => blX6_init_581 rfl h.1.1 h.1.2.1 (Nat.le_of_ble_eq_true rfl) (fun q' h1 h2 => s590 _ q' (in_new (in_put h (by decide) (by decide)) h1 h2 rfl rfl))
  have s573 : ∀ G q, in_P w a0 G0 true [75, 74, 73, 71, 70, 69, 68, 66, 65, 64, 63, 62, 61, 60, 59, 58, 57, 56, 48, 47, 46, 45, 44, 43, 41, 39, 38, 37, 36, 35, 34, 33, 32, 29, 28, 27, 26, 25, 24, 23, 22, 21, 20, 17, 16, 15, 14, 13, 12, 11, 10, 0] 76 q G → wk_V w mX6_init j 573 [(0, vR (some a0))] [vR (some q), vR (some a0)] G 7579 := fun G q h => blX6_init_573 rfl h.1.1 h.1.2.1 (Nat.le_of_ble_eq_true rfl) (fun q' h1 h2 => s581 _ q' (in_new (in_put h (by decide) (by decide)) h1 h2 rfl rfl))
  have s564 : ∀ G q, in_P w a0 G0 true [74, 73, 71, 70, 69, 68, 66, 65, 64, 63, 62, 61, 60, 59, 58, 57, 56, 48, 47, 46, 45, 44, 43, 41, 39, 38, 37, 36, 35, 34, 33, 32, 29, 28, 27, 26, 25, 24, 23, 22, 21, 20, 17, 16, 15, 14, 13, 12, 11, 10, 0] 75 q G → wk_V w mX6_init j 564 [(0, vR (some a0))] [vR (some q), vR (some a0)] G 8130 := fun G q h => blX6_init_564 rfl h.1.1 h.1.2.1 (Nat.le_of_ble_eq_true rfl) (fun q' h1 h2 => s573 _ q' (in_new (in_put h (by decide) (by decide)) h1 h2 rfl rfl))
  have s555 : ∀ G q, in_P w a0 G0 true [73, 71, 70, 69, 68, 66, 65, 64, 63, 62, 61, 60, 59, 58, 57, 56, 48, 47, 46, 45, 44, 43, 41, 39, 38, 37, 36, 35, 34, 33, 32, 29, 28, 27, 26, 25, 24, 23, 22, 21, 20, 17, 16, 15, 14, 13, 12, 11, 10, 0] 74 q G → wk_V w mX6_init j 555 [(0, vR (some a0))] [vR (some q), vR (some a0)] G 8681 := fun G q h => blX6_init_555 rfl h.1.1 h.1.2.1 (Nat.le_of_ble_eq_true rfl) (fun q' h1 h2 => s564 _ q' (in_new (in_put h (by decide) (by decide)) h1 h2 rfl rfl))
  have s546 : ∀ G q, in_P w a0 G0 true [71, 70, 69, 68, 66, 65, 64, 63, 62, 61, 60, 59, 58, 57, 56, 48, 47, 46, 45, 44, 43, 41, 39, 38, 37, 36, 35, 34, 33, 32, 29, 28, 27, 26, 25, 24, 23, 22, 21, 20, 17, 16, 15, 14, 13, 12, 11, 10, 0] 73 q G → wk_V w mX6_init j 546 [(0, vR (some a0))] [vR (some q), vR (some a0)] G 9190 := fun G q h => blX6_init_546 rfl h.1.1 h.1.2.1 (Nat.le_of_ble_eq_true rfl) (fun q' h1 h2 => s555 _ q' (in_new (in_put h (by decide) (by decide)) h1 h2 rfl rfl))
  have s541 : ∀ G, in_I w a0 G0 true [71, 70, 69, 68, 66, 65, 64, 63, 62, 61, 60, 59, 58, 57, 56, 48, 47, 46, 45, 44, 43, 41, 39, 38, 37, 36, 35, 34, 33, 32, 29, 28, 27, 26, 25, 24, 23, 22, 21, 20, 17, 16, 15, 14, 13, 12, 11, 10, 0] G → wk_V w mX6_init j 541 [(0, vR (some a0))] [] G 9199 := fun G h => blX6_init_541 (Nat.le_of_ble_eq_true rfl) (fun q' h1 h2 => s546 _ q' (in_new h h1 h2 rfl rfl))
  have s533 : ∀ G q, in_P w a0 G0 true [70, 69, 68, 66, 65, 64, 63, 62, 61, 60, 59, 58, 57, 56, 48, 47, 46, 45, 44, 43, 41, 39, 38, 37, 36, 35, 34, 33, 32, 29, 28, 27, 26, 25, 24, 23, 22, 21, 20, 17, 16, 15, 14, 13, 12, 11, 10, 0] 71 q G → wk_V w mX6_init j 533 [(0, vR (some a0))] [vR (some q), vR (some a0)] G 9199 := fun G q h => blX6_init_533 rfl h.1.1 h.1.2.1 h.1.1 h.1.2.1 (s541 _ (in_int (in_put h (by decide) (by decide)) (by decide)))
  have s524 : ∀ G q, in_P w a0 G0 true [69, 68, 66, 65, 64, 63, 62, 61, 60, 59, 58, 57, 56, 48, 47, 46, 45, 44, 43, 41, 39, 38, 37, 36, 35, 34, 33, 32, 29, 28, 27, 26, 25, 24, 23, 22, 21, 20, 17, 16, 15, 14, 13, 12, 11, 10, 0] 70 q G → wk_V w mX6_init j 524 [(0, vR (some a0))] [vR (some q), vR (some a0)] G 9708 := fun G q h => blX6_init_524 rfl h.1.1 h.1.2.1 (Nat.le_of_ble_eq_true rfl) (fun q' h1 h2 => s533 _ q' (in_new (in_put h (by decide) (by decide)) h1 h2 rfl rfl))
  have s515 : ∀ G q, in_P w a0 G0 true [68, 66, 65, 64, 63, 62, 61, 60, 59, 58, 57, 56, 48, 47, 46, 45, 44, 43, 41, 39, 38, 37, 36, 35, 34, 33, 32, 29, 28, 27, 26, 25, 24, 23, 22, 21, 20, 17, 16, 15, 14, 13, 12, 11, 10, 0] 69 q G → wk_V w mX6_init j 515 [(0, vR (some a0))] [vR (some q), vR (some a0)] G 10217 := fun G q h => blX6_init_515 rfl h.1.1 h.1.2.1 (Nat.le_of_ble_eq_true rfl) (fun q' h1 h2 => s524 _ q' (in_new (in_put h (by decide) (by decide)) h1 h2 rfl rfl))
  have s506 : ∀ G q, in_P w a0 G0 true [66, 65, 64, 63, 62, 61, 60, 59, 58, 57, 56, 48, 47, 46, 45, 44, 43, 41, 39, 38, 37, 36, 35, 34, 33, 32, 29, 28, 27, 26, 25, 24, 23, 22, 21, 20, 17, 16, 15, 14, 13, 12, 11, 10, 0] 68 q G → wk_V w mX6_init j 506 [(0, vR (some a0))] [vR (some q), vR (some a0)] G 10726 := fun G q h => blX6_init_506 rfl h.1.1 h.1.2.1 (Nat.le_of_ble_eq_true rfl) (fun q' h1 h2 => s515 _ q' (in_new (in_put h (by decide) (by decide)) h1 h2 rfl rfl))
  have s500 : ∀ G, in_I w a0 G0 true [66, 65, 64, 63, 62, 61, 60, 59, 58, 57, 56, 48, 47, 46, 45, 44, 43, 41, 39, 38, 37, 36, 35, 34, 33, 32, 29, 28, 27, 26, 25, 24, 23, 22, 21, 20, 17, 16, 15, 14, 13, 12, 11, 10, 0] G → wk_V w mX6_init j 500 [(0, vR (some a0))] [] G 11235 := fun G h => blX6_init_500 (Nat.le_of_ble_eq_true rfl) (fun q' h1 h2 => s506 _ q' (in_new h h1 h2 rfl rfl))
  have s492 : ∀ G q, in_P w a0 G0 true [65, 64, 63, 62, 61, 60, 59, 58, 57, 56, 48, 47, 46, 45, 44, 43, 41, 39, 38, 37, 36, 35, 34, 33, 32, 29, 28, 27, 26, 25, 24, 23, 22, 21, 20, 17, 16, 15, 14, 13, 12, 11, 10, 0] 66 q G → wk_V w mX6_init j 492 [(0, vR (some a0))] [vR (some q), vR (some a0)] G 11235 := fun G q h => blX6_init_492 rfl h.1.1 h.1.2.1 h.1.1 h.1.2.1 (s500 _ (in_int (in_put h (by decide) (by decide)) (by decide)))
  have s484 : ∀ G q, in_P w a0 G0 true [64, 63, 62, 61, 60, 59, 58, 57, 56, 48, 47, 46, 45, 44, 43, 41, 39, 38, 37, 36, 35, 34, 33, 32, 29, 28, 27, 26, 25, 24, 23, 22, 21, 20, 17, 16, 15, 14, 13, 12, 11, 10, 0] 65 q G → wk_V w mX6_init j 484 [(0, vR (some a0))] [vR (some q), vR (some a0)] G 16236 := fun G q h => blX6_init_484 rfl h.1.1 h.1.2.1 (Nat.le_of_ble_eq_true rfl) (fun q' h1 h2 => s492 _ q' (in_new (in_put h (by decide) (by decide)) h1 h2 rfl rfl))
  have s475 : ∀ G q, in_P w a0 G0 true [63, 62, 61, 60, 59, 58, 57, 56, 48, 47, 46, 45, 44, 43, 41, 39, 38, 37, 36, 35, 34, 33, 32, 29, 28, 27, 26, 25, 24, 23, 22, 21, 20, 17, 16, 15, 14, 13, 12, 11, 10, 0] 64 q G → wk_V w mX6_init j 475 [(0, vR (some a0))] [vR (some q), vR (some a0)] G 16745 := fun G q h => blX6_init_475 rfl h.1.1 h.1.2.1 (Nat.le_of_ble_eq_true rfl) (fun q' h1 h2 => s484 _ q' (in_new (in_put h (by decide) (by decide)) h1 h2 rfl rfl))
  have s466 : ∀ G q, in_P w a0 G0 true [62, 61, 60, 59, 58, 57, 56, 48, 47, 46, 45, 44, 43, 41, 39, 38, 37, 36, 35, 34, 33, 32, 29, 28, 27, 26, 25, 24, 23, 22, 21, 20, 17, 16, 15, 14, 13, 12, 11, 10, 0] 63 q G → wk_V w mX6_init j 466 [(0, vR (some a0))] [vR (some q), vR (some a0)] G 17254 := fun G q h => blX6_init_466 rfl h.1.1 h.1.2.1 (Nat.le_of_ble_eq_true rfl) (fun q' h1 h2 => s475 _ q' (in_new (in_put h (by decide) (by decide)) h1 h2 rfl rfl))
  have s457 : ∀ G q, in_P w a0 G0 true [61, 60, 59, 58, 57, 56, 48, 47, 46, 45, 44, 43, 41, 39, 38, 37, 36, 35, 34, 33, 32, 29, 28, 27, 26, 25, 24, 23, 22, 21, 20, 17, 16, 15, 14, 13, 12, 11, 10, 0] 62 q G → wk_V w mX6_init j 457 [(0, vR (some a0))] [vR (some q), vR (some a0)] G 17763 := fun G q h => blX6_init_457 rfl h.1.1 h.1.2.1 (Nat.le_of_ble_eq_true rfl) (fun q' h1 h2 => s466 _ q' (in_new (in_put h (by decide) (by decide)) h1 h2 rfl rfl))
  have s448 : ∀ G q, in_P w a0 G0 true [60, 59, 58, 57, 56, 48, 47, 46, 45, 44, 43, 41, 39, 38, 37, 36, 35, 34, 33, 32, 29, 28, 27, 26, 25, 24, 23, 22, 21, 20, 17, 16, 15, 14, 13, 12, 11, 10, 0] 61 q G → wk_V w mX6_init j 448 [(0, vR (some a0))] [vR (some q), vR (some a0)] G 18030 := fun G q h => blX6_init_448 rfl h.1.1 h.1.2.1 (Nat.le_of_ble_eq_true rfl) (fun q' h1 h2 => s457 _ q' (in_new (in_put h (by decide) (by decide)) h1 h2 rfl rfl))
  have s439 : ∀ G q, in_P w a0 G0 true [59, 58, 57, 56, 48, 47, 46, 45, 44, 43, 41, 39, 38, 37, 36, 35, 34, 33, 32, 29, 28, 27, 26, 25, 24, 23, 22, 21, 20, 17, 16, 15, 14, 13, 12, 11, 10, 0] 60 q G → wk_V w mX6_init j 439 [(0, vR (some a0))] [vR (some q), vR (some a0)] G 18297 := fun G q h => blX6_init_439 rfl h.1.1 h.1.2.1 (Nat.le_of_ble_eq_true rfl) (fun q' h1 h2 => s448 _ q' (in_new (in_put h (by decide) (by decide)) h1 h2 rfl rfl))
  have s430 : ∀ G q, in_P w a0 G0 true [58, 57, 56, 48, 47, 46, 45, 44, 43, 41, 39, 38, 37, 36, 35, 34, 33, 32, 29, 28, 27, 26, 25, 24, 23, 22, 21, 20, 17, 16, 15, 14, 13, 12, 11, 10, 0] 59 q G → wk_V w mX6_init j 430 [(0, vR (some a0))] [vR (some q), vR (some a0)] G 18564 := fun G q h => blX6_init_430 rfl h.1.1 h.1.2.1 (Nat.le_of_ble_eq_true rfl) (fun q' h1 h2 => s439 _ q' (in_new (in_put h (by decide) (by decide)) h1 h2 rfl rfl))
  have s421 : ∀ G q, in_P w a0 G0 true [57, 56, 48, 47, 46, 45, 44, 43, 41, 39, 38, 37, 36, 35, 34, 33, 32, 29, 28, 27, 26, 25, 24, 23, 22, 21, 20, 17, 16, 15, 14, 13, 12, 11, 10, 0] 58 q G → wk_V w mX6_init j 421 [(0, vR (some a0))] [vR (some q), vR (some a0)] G 18831 := fun G q h => blX6_init_421 rfl h.1.1 h.1.2.1 (Nat.le_of_ble_eq_true rfl) (fun q' h1 h2 => s430 _ q' (in_new (in_put h (by decide) (by decide)) h1 h2 rfl rfl))
  have s412 : ∀ G q, in_P w a0 G0 true [56, 48, 47, 46, 45, 44, 43, 41, 39, 38, 37, 36, 35, 34, 33, 32, 29, 28, 27, 26, 25, 24, 23, 22, 21, 20, 17, 16, 15, 14, 13, 12, 11, 10, 0] 57 q G → wk_V w mX6_init j 412 [(0, vR (some a0))] [vR (some q), vR (some a0)] G 19098 := fun G q h => blX6_init_412 rfl h.1.1 h.1.2.1 (Nat.le_of_ble_eq_true rfl) (fun q' h1 h2 => s421 _ q' (in_new (in_put h (by decide) (by decide)) h1 h2 rfl rfl))
  have s403 : ∀ G q, in_P w a0 G0 true [48, 47, 46, 45, 44, 43, 41, 39, 38, 37, 36, 35, 34, 33, 32, 29, 28, 27, 26, 25, 24, 23, 22, 21, 20, 17, 16, 15, 14, 13, 12, 11, 10, 0] 56 q G → wk_V w mX6_init j 403 [(0, vR (some a0))] [vR (some q), vR (some a0)] G 19365 := fun G q h => blX6_init_403 rfl h.1.1 h.1.2.1 (Nat.le_of_ble_eq_true rfl) (fun q' h1 h2 => s412 _ q' (in_new (in_put h (by decide) (by decide)) h1 h2 rfl rfl))
  have s397 : ∀ G, in_I w a0 G0 true [48, 47, 46, 45, 44, 43, 41, 39, 38, 37, 36, 35, 34, 33, 32, 29, 28, 27, 26, 25, 24, 23, 22, 21, 20, 17, 16, 15, 14, 13, 12, 11, 10, 0] G → wk_V w mX6_init j 397 [(0, vR (some a0))] [] G 19632 := fun G h => blX6_init_397 (Nat.le_of_ble_eq_true rfl) (fun q' h1 h2 => s403 _ q' (in_new h h1 h2 rfl rfl))
  have s387 : ∀ G, in_I w a0 G0 true [48, 47, 46, 45, 44, 43, 41, 39, 38, 37, 36, 35, 34, 33, 32, 29, 28, 27, 26, 25, 24, 23, 22, 21, 20, 17, 16, 15, 14, 13, 12, 11, 10, 0] G → wk_V w mX6_init j 387 [(0, vR (some a0))] [] G 19632 := fun G h => blX6_init_387 h.1 h.2.1 (s397 _ (in_int (in_int h (by decide)) (by decide)))
  have s377 : ∀ G, in_I w a0 G0 true [48, 47, 46, 45, 44, 43, 41, 39, 38, 37, 36, 35, 34, 33, 32, 29, 28, 27, 26, 25, 24, 23, 22, 21, 20, 17, 16, 15, 14, 13, 12, 11, 10, 0] G → wk_V w mX6_init j 377 [(0, vR (some a0))] [] G 19632 := fun G h => blX6_init_377 h.1 h.2.1 (s387 _ (in_int (in_int h (by decide)) (by decide)))
  have s367 : ∀ G, in_I w a0 G0 true [48, 47, 46, 45, 44, 43, 41, 39, 38, 37, 36, 35, 34, 33, 32, 29, 28, 27, 26, 25, 24, 23, 22, 21, 20, 17, 16, 15, 14, 13, 12, 11, 10, 0] G → wk_V w mX6_init j 367 [(0, vR (some a0))] [] G 19632 := fun G h => blX6_init_367 h.1 h.2.1 (s377 _ (in_int (in_int h (by decide)) (by decide)))
  have s359 : ∀ G q, in_P w a0 G0 false [47, 46, 45, 44, 43, 41, 39, 38, 37, 36, 35, 34, 33, 32, 29, 28, 27, 26, 25, 24, 23, 22, 21, 20, 17, 16, 15, 14, 13, 12, 11, 10, 0] 48 q G → wk_V w mX6_init j 359 [(0, vR (some a0))] [vR (some q), vR (some a0)] G 19632 := fun G q h => blX6_init_359 rfl h.1.1 h.1.2.1 h.1.1 h.1.2.1 (s367 _ (in_m1 (in_put h (by decide) (by decide))))
  have s351 : ∀ G q, in_P w a0 G0 false [46, 45, 44, 43, 41, 39, 38, 37, 36, 35, 34, 33, 32, 29, 28, 27, 26, 25, 24, 23, 22, 21, 20, 17, 16, 15, 14, 13, 12, 11, 10, 0] 47 q G → wk_V w mX6_init j 351 [(0, vR (some a0))] [vR (some q), vR (some a0)] G 19638 := fun G q h => blX6_init_351 rfl h.1.1 h.1.2.1 (Nat.le_of_ble_eq_true rfl) (fun q' h1 h2 => s359 _ q' (in_new (in_put h (by decide) (by decide)) h1 h2 rfl rfl))
  have s342 : ∀ G q, in_P w a0 G0 false [45, 44, 43, 41, 39, 38, 37, 36, 35, 34, 33, 32, 29, 28, 27, 26, 25, 24, 23, 22, 21, 20, 17, 16, 15, 14, 13, 12, 11, 10, 0] 46 q G → wk_V w mX6_init j 342 [(0, vR (some a0))] [vR (some q), vR (some a0)] G 20139 := fun G q h => blX6_init_342 rfl h.1.1 h.1.2.1 (Nat.le_of_ble_eq_true rfl) (fun q' h1 h2 => s351 _ q' (in_new (in_put h (by decide) (by decide)) h1 h2 rfl rfl))
  have s333 : ∀ G q, in_P w a0 G0 false [44, 43, 41, 39, 38, 37, 36, 35, 34, 33, 32, 29, 28, 27, 26, 25, 24, 23, 22, 21, 20, 17, 16, 15, 14, 13, 12, 11, 10, 0] 45 q G → wk_V w mX6_init j 333 [(0, vR (some a0))] [vR (some q), vR (some a0)] G 20640 := fun G q h => blX6_init_333 rfl h.1.1 h.1.2.1 (Nat.le_of_ble_eq_true rfl) (fun q' h1 h2 => s342 _ q' (in_new (in_put h (by decide) (by decide)) h1 h2 rfl rfl))
  have s325 : ∀ G q, in_P w a0 G0 false [43, 41, 39, 38, 37, 36, 35, 34, 33, 32, 29, 28, 27, 26, 25, 24, 23, 22, 21, 20, 17, 16, 15, 14, 13, 12, 11, 10, 0] 44 q G → wk_V w mX6_init j 325 [(0, vR (some a0))] [vR (some q), vR (some a0)] G 26141 := fun G q h => blX6_init_325 rfl h.1.1 h.1.2.1 (Nat.le_of_ble_eq_true rfl) (fun q' h1 h2 => s333 _ q' (in_new (in_put h (by decide) (by decide)) h1 h2 rfl rfl))
  have s317 : ∀ G q, in_P w a0 G0 false [41, 39, 38, 37, 36, 35, 34, 33, 32, 29, 28, 27, 26, 25, 24, 23, 22, 21, 20, 17, 16, 15, 14, 13, 12, 11, 10, 0] 43 q G → wk_V w mX6_init j 317 [(0, vR (some a0))] [vR (some q), vR (some a0)] G 31642 := fun G q h => blX6_init_317 rfl h.1.1 h.1.2.1 (Nat.le_of_ble_eq_true rfl) (fun q' h1 h2 => s325 _ q' (in_new (in_put h (by decide) (by decide)) h1 h2 rfl rfl))
  have s312 : ∀ G, in_I w a0 G0 false [41, 39, 38, 37, 36, 35, 34, 33, 32, 29, 28, 27, 26, 25, 24, 23, 22, 21, 20, 17, 16, 15, 14, 13, 12, 11, 10, 0] G → wk_V w mX6_init j 312 [(0, vR (some a0))] [] G 37143 := fun G h => blX6_init_312 (Nat.le_of_ble_eq_true rfl) (fun q' h1 h2 => s317 _ q' (in_new h h1 h2 rfl rfl))
  have s304 : ∀ G q, in_P w a0 G0 false [39, 38, 37, 36, 35, 34, 33, 32, 29, 28, 27, 26, 25, 24, 23, 22, 21, 20, 17, 16, 15, 14, 13, 12, 11, 10, 0] 41 q G → wk_V w mX6_init j 304 [(0, vR (some a0))] [vR (some q), vR (some a0)] G 37143 := fun G q h => blX6_init_304 rfl h.1.1 h.1.2.1 h.1.1 h.1.2.1 (s312 _ (in_int (in_put h (by decide) (by decide)) (by decide)))
  have s299 : ∀ G, in_I w a0 G0 false [39, 38, 37, 36, 35, 34, 33, 32, 29, 28, 27, 26, 25, 24, 23, 22, 21, 20, 17, 16, 15, 14, 13, 12, 11, 10, 0] G → wk_V w mX6_init j 299 [(0, vR (some a0))] [] G 42644 := fun G h => blX6_init_299 (Nat.le_of_ble_eq_true rfl) (fun q' h1 h2 => s304 _ q' (in_new h h1 h2 rfl rfl))
  have s291 : ∀ G q, in_P w a0 G0 false [38, 37, 36, 35, 34, 33, 32, 29, 28, 27, 26, 25, 24, 23, 22, 21, 20, 17, 16, 15, 14, 13, 12, 11, 10, 0] 39 q G → wk_V w mX6_init j 291 [(0, vR (some a0))] [vR (some q), vR (some a0)] G 42644 := fun G q h => blX6_init_291 rfl h.1.1 h.1.2.1 h.1.1 h.1.2.1 (s299 _ (in_int (in_put h (by decide) (by decide)) (by decide)))
  have s283 : ∀ G q, in_P w a0 G0 false [37, 36, 35, 34, 33, 32, 29, 28, 27, 26, 25, 24, 23, 22, 21, 20, 17, 16, 15, 14, 13, 12, 11, 10, 0] 38 q G → wk_V w mX6_init j 283 [(0, vR (some a0))] [vR (some q), vR (some a0)] G 48145 := fun G q h => blX6_init_283 rfl h.1.1 h.1.2.1 (Nat.le_of_ble_eq_true rfl) (fun q' h1 h2 => s291 _ q' (in_new (in_put h (by decide) (by decide)) h1 h2 rfl rfl))
  have s275 : ∀ G q, in_P w a0 G0 false [36, 35, 34, 33, 32, 29, 28, 27, 26, 25, 24, 23, 22, 21, 20, 17, 16, 15, 14, 13, 12, 11, 10, 0] 37 q G → wk_V w mX6_init j 275 [(0, vR (some a0))] [vR (some q), vR (some a0)] G 53646 := fun G q h => blX6_init_275 rfl h.1.1 h.1.2.1 (Nat.le_of_ble_eq_true rfl) (fun q' h1 h2 => s283 _ q' (in_new (in_put h (by decide) (by decide)) h1 h2 rfl rfl))
  have s267 : ∀ G q, in_P w a0 G0 false [35, 34, 33, 32, 29, 28, 27, 26, 25, 24, 23, 22, 21, 20, 17, 16, 15, 14, 13, 12, 11, 10, 0] 36 q G → wk_V w mX6_init j 267 [(0, vR (some a0))] [vR (some q), vR (some a0)] G 59147 := fun G q h => blX6_init_267 rfl h.1.1 h.1.2.1 (Nat.le_of_ble_eq_true rfl) (fun q' h1 h2 => s275 _ q' (in_new (in_put h (by decide) (by decide)) h1 h2 rfl rfl))
  have s259 : ∀ G q, in_P w a0 G0 false [34, 33, 32, 29, 28, 27, 26, 25, 24, 23, 22, 21, 20, 17, 16, 15, 14, 13, 12, 11, 10, 0] 35 q G → wk_V w mX6_init j 259 [(0, vR (some a0))] [vR (some q), vR (some a0)] G 64648 := fun G q h => blX6_init_259 rfl h.1.1 h.1.2.1 (Nat.le_of_ble_eq_true rfl) (fun q' h1 h2 => s267 _ q' (in_new (in_put h (by decide) (by decide)) h1 h2 rfl rfl))
  have s251 : ∀ G q, in_P w a0 G0 false [33, 32, 29, 28, 27, 26, 25, 24, 23, 22, 21, 20, 17, 16, 15, 14, 13, 12, 11, 10, 0] 34 q G → wk_V w mX6_init j 251 [(0, vR (some a0))] [vR (some q), vR (some a0)] G 70149 := fun G q h => blX6_init_251 rfl h.1.1 h.1.2.1 (Nat.le_of_ble_eq_true rfl) (fun q' h1 h2 => s259 _ q' (in_new (in_put h (by decide) (by decide)) h1 h2 rfl rfl))
  have s243 : ∀ G q, in_P w a0 G0 false [32, 29, 28, 27, 26, 25, 24, 23, 22, 21, 20, 17, 16, 15, 14, 13, 12, 11, 10, 0] 33 q G → wk_V w mX6_init j 243 [(0, vR (some a0))] [vR (some q), vR (some a0)] G 75650 := fun G q h => blX6_init_243 rfl h.1.1 h.1.2.1 (Nat.le_of_ble_eq_true rfl) (fun q' h1 h2 => s251 _ q' (in_new (in_put h (by decide) (by decide)) h1 h2 rfl rfl))
  have s235 : ∀ G q, in_P w a0 G0 false [29, 28, 27, 26, 25, 24, 23, 22, 21, 20, 17, 16, 15, 14, 13, 12, 11, 10, 0] 32 q G → wk_V w mX6_init j 235 [(0, vR (some a0))] [vR (some q), vR (some a0)] G 81151 := fun G q h => blX6_init_235 rfl h.1.1 h.1.2.1 (Nat.le_of_ble_eq_true rfl) (fun q' h1 h2 => s243 _ q' (in_new (in_put h (by decide) (by decide)) h1 h2 rfl rfl))
  have s225 : ∀ G, in_I w a0 G0 false [29, 28, 27, 26, 25, 24, 23, 22, 21, 20, 17, 16, 15, 14, 13, 12, 11, 10, 0] G → wk_V w mX6_init j 225 [(0, vR (some a0))] [] G 86652 := fun G h => blX6_init_225 h.1 h.2.1 (Nat.le_of_ble_eq_true rfl) (fun q' h1 h2 => s235 _ q' (in_new (in_int h (by decide)) h1 h2 rfl rfl))
  have s217 : ∀ G q, in_P w a0 G0 false [28, 27, 26, 25, 24, 23, 22, 21, 20, 17, 16, 15, 14, 13, 12, 11, 10, 0] 29 q G → wk_V w mX6_init j 217 [(0, vR (some a0))] [vR (some q), vR (some a0)] G 86652 := fun G q h => blX6_init_217 rfl h.1.1 h.1.2.1 h.1.1 h.1.2.1 (s225 _ (in_int (in_put h (by decide) (by decide)) (by decide)))
  have s208 : ∀ G q, in_P w a0 G0 false [27, 26, 25, 24, 23, 22, 21, 20, 17, 16, 15, 14, 13, 12, 11, 10, 0] 28 q G → wk_V w mX6_init j 208 [(0, vR (some a0))] [vR (some q), vR (some a0)] G 88069 := fun G q h => blX6_init_208 rfl h.1.1 h.1.2.1 (Nat.le_of_ble_eq_true rfl) (fun q' h1 h2 => s217 _ q' (in_new (in_put h (by decide) (by decide)) h1 h2 rfl rfl))
  have s200 : ∀ G q, in_P w a0 G0 false [26, 25, 24, 23, 22, 21, 20, 17, 16, 15, 14, 13, 12, 11, 10, 0] 27 q G → wk_V w mX6_init j 200 [(0, vR (some a0))] [vR (some q), vR (some a0)] G 93570 := fun G q h => blX6_init_200 rfl h.1.1 h.1.2.1 (Nat.le_of_ble_eq_true rfl) (fun q' h1 h2 => s208 _ q' (in_new (in_put h (by decide) (by decide)) h1 h2 rfl rfl))
  have s191 : ∀ G q, in_P w a0 G0 false [25, 24, 23, 22, 21, 20, 17, 16, 15, 14, 13, 12, 11, 10, 0] 26 q G → wk_V w mX6_init j 191 [(0, vR (some a0))] [vR (some q), vR (some a0)] G 94987 := fun G q h => blX6_init_191 rfl h.1.1 h.1.2.1 (Nat.le_of_ble_eq_true rfl) (fun q' h1 h2 => s200 _ q' (in_new (in_put h (by decide) (by decide)) h1 h2 rfl rfl))
  have s182 : ∀ G q, in_P w a0 G0 false [24, 23, 22, 21, 20, 17, 16, 15, 14, 13, 12, 11, 10, 0] 25 q G → wk_V w mX6_init j 182 [(0, vR (some a0))] [vR (some q), vR (some a0)] G 96404 := fun G q h => blX6_init_182 rfl h.1.1 h.1.2.1 (Nat.le_of_ble_eq_true rfl) (fun q' h1 h2 => s191 _ q' (in_new (in_put h (by decide) (by decide)) h1 h2 rfl rfl))
  have s173 : ∀ G q, in_P w a0 G0 false [23, 22, 21, 20, 17, 16, 15, 14, 13, 12, 11, 10, 0] 24 q G → wk_V w mX6_init j 173 [(0, vR (some a0))] [vR (some q), vR (some a0)] G 97821 := fun G q h => blX6_init_173 rfl h.1.1 h.1.2.1 (Nat.le_of_ble_eq_true rfl) (fun q' h1 h2 => s182 _ q' (in_new (in_put h (by decide) (by decide)) h1 h2 rfl rfl))
  have s164 : ∀ G q, in_P w a0 G0 false [22, 21, 20, 17, 16, 15, 14, 13, 12, 11, 10, 0] 23 q G → wk_V w mX6_init j 164 [(0, vR (some a0))] [vR (some q), vR (some a0)] G 98322 := fun G q h => blX6_init_164 rfl h.1.1 h.1.2.1 (Nat.le_of_ble_eq_true rfl) (fun q' h1 h2 => s173 _ q' (in_new (in_put h (by decide) (by decide)) h1 h2 rfl rfl))
  have s155 : ∀ G q, in_P w a0 G0 false [21, 20, 17, 16, 15, 14, 13, 12, 11, 10, 0] 22 q G → wk_V w mX6_init j 155 [(0, vR (some a0))] [vR (some q), vR (some a0)] G 98823 := fun G q h => blX6_init_155 rfl h.1.1 h.1.2.1 (Nat.le_of_ble_eq_true rfl) (fun q' h1 h2 => s164 _ q' (in_new (in_put h (by decide) (by decide)) h1 h2 rfl rfl))
  have s146 : ∀ G q, in_P w a0 G0 false [20, 17, 16, 15, 14, 13, 12, 11, 10, 0] 21 q G → wk_V w mX6_init j 146 [(0, vR (some a0))] [vR (some q), vR (some a0)] G 99324 := fun G q h => blX6_init_146 rfl h.1.1 h.1.2.1 (Nat.le_of_ble_eq_true rfl) (fun q' h1 h2 => s155 _ q' (in_new (in_put h (by decide) (by decide)) h1 h2 rfl rfl))
  have s137 : ∀ G q, in_P w a0 G0 false [17, 16, 15, 14, 13, 12, 11, 10, 0] 20 q G → wk_V w mX6_init j 137 [(0, vR (some a0))] [vR (some q), vR (some a0)] G 99825 := fun G q h => blX6_init_137 rfl h.1.1 h.1.2.1 (Nat.le_of_ble_eq_true rfl) (fun q' h1 h2 => s146 _ q' (in_new (in_put h (by decide) (by decide)) h1 h2 rfl rfl))
  have s126 : ∀ G, in_I w a0 G0 false [17, 16, 15, 14, 13, 12, 11, 10, 0] G → wk_V w mX6_init j 126 [(0, vR (some a0))] [] G 100326 := fun G h => blX6_init_126 h.1 h.2.1 (Nat.le_of_ble_eq_true rfl) (fun q' h1 h2 => s137 _ q' (in_new (in_int h (by decide)) h1 h2 rfl rfl))
  have s118 : ∀ G q, in_P w a0 G0 false [16, 15, 14, 13, 12, 11, 10, 0] 17 q G → wk_V w mX6_init j 118 [(0, vR (some a0))] [vR (some q), vR (some a0)] G 100326 := fun G q h => blX6_init_118 rfl h.1.1 h.1.2.1 h.1.1 h.1.2.1 (s126 _ (in_int (in_put h (by decide) (by decide)) (by decide)))
  have s110 : ∀ G q, in_P w a0 G0 false [15, 14, 13, 12, 11, 10, 0] 16 q G → wk_V w mX6_init j 110 [(0, vR (some a0))] [vR (some q), vR (some a0)] G 100332 := fun G q h => blX6_init_110 rfl h.1.1 h.1.2.1 (Nat.le_of_ble_eq_true rfl) (fun q' h1 h2 => s118 _ q' (in_new (in_put h (by decide) (by decide)) h1 h2 rfl rfl))
  have s102 : ∀ G q, in_P w a0 G0 false [14, 13, 12, 11, 10, 0] 15 q G → wk_V w mX6_init j 102 [(0, vR (some a0))] [vR (some q), vR (some a0)] G 100338 := fun G q h => blX6_init_102 rfl h.1.1 h.1.2.1 (Nat.le_of_ble_eq_true rfl) (fun q' h1 h2 => s110 _ q' (in_new (in_put h (by decide) (by decide)) h1 h2 rfl rfl))
  have s94 : ∀ G q, in_P w a0 G0 false [13, 12, 11, 10, 0] 14 q G → wk_V w mX6_init j 94 [(0, vR (some a0))] [vR (some q), vR (some a0)] G 100344 := fun G q h => blX6_init_94 rfl h.1.1 h.1.2.1 (Nat.le_of_ble_eq_true rfl) (fun q' h1 h2 => s102 _ q' (in_new (in_put h (by decide) (by decide)) h1 h2 rfl rfl))
  have s86 : ∀ G q, in_P w a0 G0 false [12, 11, 10, 0] 13 q G → wk_V w mX6_init j 86 [(0, vR (some a0))] [vR (some q), vR (some a0)] G 100350 := fun G q h => blX6_init_86 rfl h.1.1 h.1.2.1 (Nat.le_of_ble_eq_true rfl) (fun q' h1 h2 => s94 _ q' (in_new (in_put h (by decide) (by decide)) h1 h2 rfl rfl))
  have s78 : ∀ G q, in_P w a0 G0 false [11, 10, 0] 12 q G → wk_V w mX6_init j 78 [(0, vR (some a0))] [vR (some q), vR (some a0)] G 100356 := fun G q h => blX6_init_78 rfl h.1.1 h.1.2.1 (Nat.le_of_ble_eq_true rfl) (fun q' h1 h2 => s86 _ q' (in_new (in_put h (by decide) (by decide)) h1 h2 rfl rfl))
  have s70 : ∀ G q, in_P w a0 G0 false [10, 0] 11 q G → wk_V w mX6_init j 70 [(0, vR (some a0))] [vR (some q), vR (some a0)] G 100362 := fun G q h => blX6_init_70 rfl h.1.1 h.1.2.1 (Nat.le_of_ble_eq_true rfl) (fun q' h1 h2 => s78 _ q' (in_new (in_put h (by decide) (by decide)) h1 h2 rfl rfl))
  have s62 : ∀ G q, in_P w a0 G0 false [0] 10 q G → wk_V w mX6_init j 62 [(0, vR (some a0))] [vR (some q), vR (some a0)] G 100368 := fun G q h => blX6_init_62 rfl h.1.1 h.1.2.1 (Nat.le_of_ble_eq_true rfl) (fun q' h1 h2 => s70 _ q' (in_new (in_put h (by decide) (by decide)) h1 h2 rfl rfl))
  have s57 : ∀ G, in_I w a0 G0 false [0] G → wk_V w mX6_init j 57 [(0, vR (some a0))] [] G 100374 := fun G h => blX6_init_57 (Nat.le_of_ble_eq_true rfl) (fun q' h1 h2 => s62 _ q' (in_new h h1 h2 rfl rfl))
  have s47 : ∀ G, in_I w a0 G0 false [0] G → wk_V w mX6_init j 47 [(0, vR (some a0))] [] G 100374 := fun G h => blX6_init_47 h.1 h.2.1 (s57 _ (in_int (in_int h (by decide)) (by decide)))
  have s37 : ∀ G, in_I w a0 G0 false [0] G → wk_V w mX6_init j 37 [(0, vR (some a0))] [] G 100374 := fun G h => blX6_init_37 h.1 h.2.1 (s47 _ (in_int (in_int h (by decide)) (by decide)))
  have s27 : ∀ G, in_I w a0 G0 false [0] G → wk_V w mX6_init j 27 [(0, vR (some a0))] [] G 100374 := fun G h => blX6_init_27 h.1 h.2.1 (s37 _ (in_int (in_int h (by decide)) (by decide)))
  have s17 : ∀ G, in_I w a0 G0 false [0] G → wk_V w mX6_init j 17 [(0, vR (some a0))] [] G 100374 := fun G h => blX6_init_17 h.1 h.2.1 (s27 _ (in_int (in_int h (by decide)) (by decide)))
  have s9 : ∀ G q, in_P w a0 G0 false [] 0 q G → wk_V w mX6_init j 9 [(0, vR (some a0))] [vR (some q), vR (some a0)] G 100374 := fun G q h => blX6_init_9 rfl h.1.1 h.1.2.1 h.1.1 h.1.2.1 (s17 _ (in_int (in_put h (by decide) (by decide)) (by decide)))
  have s4 : ∀ G, in_I w a0 G0 false [] G → wk_V w mX6_init j 4 [(0, vR (some a0))] [] G 105836 := fun G h => blX6_init_4 (Nat.le_of_ble_eq_true rfl) (fun q' h1 h2 => s9 _ q' (in_new h h1 h2 rfl rfl))
  have s0 : ∀ G, in_I w a0 G0 false [] G → wk_V w mX6_init j 0 [(0, vR (some a0))] [] G 105836 := fun G h => blX6_init_0 hd (s4 _ h)
  exact s0 G hG
/-- what the constructor leaves -/
def in_S : MS := (fun k => if k = 49 then -1 else 0, fun _ _ => 0)
theorem in_all : ∀ k, ml_ar k ≠ 0 → k ∈ [81, 80, 79, 78, 77, 76, 75, 74, 73, 71, 70, 69, 68, 66, 65, 64, 63, 62, 61, 60, 59, 58, 57, 56, 48, 47, 46, 45, 44, 43, 41, 39, 38, 37, 36, 35, 34, 33, 32, 29, 28, 27, 26, 25, 24, 23, 22, 21, 20, 17, 16, 15, 14, 13, 12, 11, 10, 0] := by
  intro k h
  unfold ml_ar at h
  split at h <;> first | decide | exact absurd rfl h
theorem X6_init_C {d : Nat} (hd : 1 ≤ d) (h1 : hp_kd G a0 = 1) (h2 : hp_A w a0) (h3 : ∀ k, hp_i G a0 k = 0) : wk_C w mX6_init d 105836 [vR (some a0)] G (fun v G' => v = none ∧ (∃ ad, ml_W (w, a0, ad, G') in_S G') ∧ ∀ a, hp_kd G a ≠ 0 → a ≠ a0 → hp_kd G' a = hp_kd G a ∧ hp_ln G' a = hp_ln G a ∧ (∀ j, hp_i G' a j = hp_i G a j) ∧ (∀ j, hp_r G' a j = hp_r G a j) ∧ ∀ j, hp_l G' a j = hp_l G a j) (fun _ _ _ => False) := by
  refine wk_C_of (by decide) rfl (Nat.le_of_ble_eq_true rfl) ?_
  refine in_walk (G0 := G) hd (fun G' g => ⟨rfl, ?_, g.2.2.2.2.2⟩) ⟨h1, h2, fun k => by rw [h3, if_neg (fun y => absurd y.1 (by decide))], fun k hk => absurd hk List.not_mem_nil, fun k hk => absurd hk List.not_mem_nil, fun a _ _ => ⟨rfl, rfl, fun _ => rfl, fun _ => rfl, fun _ => rfl⟩⟩
  obtain ⟨g1, g2, g3, g4, g5, g6⟩ := g
  have e : ∀ k, ml_ar k ≠ 0 → hp_r G' a0 k = some ((hp_r G' a0 k).getD 0) := fun k hk => by
    obtain ⟨-, q, r2, -⟩ := g4 k (in_all k hk)
    rw [r2]
    rfl
  refine ⟨fun k => (hp_r G' a0 k).getD 0, ⟨g1, g2⟩, fun k hk => ?_, fun k k' hk hk' u => ?_, fun k => ?_, fun k hk => ?_⟩
  · obtain ⟨-, q, r2, r3, r4, r5, r6, r7⟩ := g4 k (in_all k hk)
    refine ⟨e k hk, ?_, ?_, ?_⟩
    · show hp_kd G' ((hp_r G' a0 k).getD 0) = _
      rw [r2]; exact r4
    · show hp_ln G' ((hp_r G' a0 k).getD 0) = _
      rw [r2]; exact r5
    · show hp_A w ((hp_r G' a0 k).getD 0)
      rw [r2]; exact r6
  · have u : (hp_r G' a0 k).getD 0 = (hp_r G' a0 k').getD 0 := u
    exact g5 k (in_all k hk) k' (in_all k' hk') (by rw [e k hk, e k' hk', u])
  · show hp_i G' a0 k = if k = 49 then -1 else 0
    rw [g3]
    by_cases y : k = 49
    · rw [if_pos ⟨rfl, y⟩, if_pos y]
    · rw [if_neg (fun x => y x.2), if_neg y]
  · obtain ⟨-, q, r2, r3, r4, r5, r6, r7⟩ := g4 k (in_all k hk)
    show hp_i G' ((hp_r G' a0 k).getD 0) = _
    rw [r2]
    funext j
    exact r7 j
end
