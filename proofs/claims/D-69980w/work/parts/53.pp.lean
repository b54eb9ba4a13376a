/-! THE PARSER AS A FUNCTION of the tape T, its size n, a place c and the reference's state (without its lexer) -/
set_option maxRecDepth 100000
/-- what a parse answers: an error (kind, place) or an expression's number, the place behind it, the state -/
abbrev PE : Type := (Int32 × Nat) ⊕ (Nat × Nat × MS)
def pr_b (x : Option PE) (f : Nat → Nat → MS → Option PE) : Option PE := match x with
  | none => none
  | some (.inl e) => some (.inl e)
  | some (.inr q) => f q.1 q.2.1 q.2.2
abbrev pr_er (k : Int32) (c : Nat) : Option PE := some (.inl (k, c))
abbrev pr_ok (e c : Nat) (S : MS) : Option PE := some (.inr (e, c, S))
theorem pr_b_ok {x : Option PE} {f : Nat → Nat → MS → Option PE} {q : Nat × Nat × MS} (h : pr_b x f = some (.inr q)) : ∃ e c S, x = some (.inr (e, c, S)) ∧ f e c S = some (.inr q) := by
  match x, h with
  | some (.inr (e, c, S)), h => exact ⟨e, c, S, rfl, h⟩
theorem pr_b_some {x : Option PE} {f : Nat → Nat → MS → Option PE} {r : PE} (h : pr_b x f = some r) : ∃ r1, x = some r1 ∧ (∀ k, r1 = .inl k → r = .inl k) ∧ (∀ e c S, r1 = .inr (e, c, S) → f e c S = some r) := by
  match x, h with
  | some (.inl k), h => exact ⟨_, rfl, (fun k' e => by cases e; exact (Option.some.inj h).symm), (fun e c S q => by cases q)⟩
  | some (.inr (e, c, S)), h => exact ⟨_, rfl, (fun k' e => by cases e), (fun e' c' S' q => by cases q; exact h)⟩
/-- nodes, the first variable of this one, variables, expressions: how many -/
def pr_N (S : MS) : Nat := (S.1 18).toNatClampNeg
def pr_a (S : MS) : Nat := (S.2 12 (pr_N S)).toNatClampNeg
def pr_v (S : MS) : Nat := (S.1 19).toNatClampNeg
def pr_p (S : MS) : Nat := (S.1 40).toNatClampNeg
/-- a part more of expression n: price and height -/
def pm_kid (n : Nat) (σ : MS) (k : Nat) : MS :=
  ml_sa (ml_sa σ 38 n (σ.2 38 n + σ.2 38 k)) 39 n (if (ml_sa σ 38 n (σ.2 38 n + σ.2 38 k)).2 39 n < (ml_sa σ 38 n (σ.2 38 n + σ.2 38 k)).2 39 k + 1 then (ml_sa σ 38 n (σ.2 38 n + σ.2 38 k)).2 39 k + 1 else (ml_sa σ 38 n (σ.2 38 n + σ.2 38 k)).2 39 n)
def pm_first (ks : List Nat) : Int32 := match ks with
  | [] => -1
  | k :: _ => nI k
def pm_0 (σ : MS) (p : Nat) (kind what x : Int32) : MS := ml_sa (ml_sa (ml_sa (ml_sa (ml_sa (ml_sa (ml_sa (ml_sf σ 40 (nI (p + 1))) 32 p kind) 33 p what) 34 p x) 35 p (-1)) 36 p (-2)) 38 p 1) 39 p 1
def pm_mk (σ : MS) (p : Nat) (kind what : Int32) (ks : List Nat) : MS := ks.foldl (pm_kid p) (pm_0 σ p kind what (pm_first ks))
def pm_fin (N : Nat) (kind : Int32) (p : Nat) (σ : MS) : MS :=
  if kind = 24 ∨ kind = 5 ∨ kind = 25 then ml_sa (ml_sa σ 17 N (σ.2 17 N + 1)) 37 p (σ.2 17 N)
  else if kind = 6 then ml_sa (ml_sa σ 37 p (σ.2 17 N)) 17 N ((ml_sa σ 37 p (σ.2 17 N)).2 17 N + 2) else σ
def pr_make (S : MS) (kind what : Int32) (ks : List Nat) (c : Nat) : Option PE :=
  if (pm_mk S (pr_p S) kind what ks).2 39 (pr_p S) ≤ 200 then pr_ok (pr_p S) c (pm_fin (pr_N S) kind (pr_p S) (pm_mk S (pr_p S) kind what ks)) else pr_er 3 c
def pr_two (S : MS) (kind : Int32) (a b c : Nat) : Option PE := pr_make (ml_sa S 35 a (nI b)) kind 0 [a, b] c
def pm_cl (σ : MS) (N e : Nat) : MS := ml_sa (ml_sa σ 16 N (σ.2 16 N + 1)) 37 e (σ.2 16 N)
def pr_call (S : MS) (k : Nat) (ks : List Nat) (c : Nat) : Option PE := pr_b (pr_make S 3 (nI k) ks c) fun e c' S' => pr_ok e c' (pm_cl S' (pr_N S') e)
def pr_cmp (t : Int32) : Int32 := if t = 61 then 11 else if t = 300 then 12 else if t = 60 then 13 else if t = 301 then 14 else if t = 62 then 15 else if t = 302 then 16 else 0
def pr_dig (T : Nat → Int32) (e k : Nat) (v : Int32) : Int32 := if k < e then pr_dig T e (k + 1) (10 * v + T k - 48) else v
termination_by e - k
decreasing_by omega
theorem pr_dig_1 {T : Nat → Int32} {e k : Nat} {v : Int32} (h : k < e) : pr_dig T e k v = pr_dig T e (k + 1) (10 * v + T k - 48) := by rw [pr_dig, if_pos h]
theorem pr_dig_0 {T : Nat → Int32} {e k : Nat} {v : Int32} (h : ¬ k < e) : pr_dig T e k v = v := by rw [pr_dig, if_neg h]
/-- a parser of all the kinds: kind, depth, an expression or a node, parts so far, place, state -/
abbrev PF : Type := Nat → Nat → Nat → List Nat → Nat → MS → Option PE
section
variable (T : Nat → Int32) (n : Nat) (rec : PF)
def kk_or (c : Nat) : Int32 := if lx_isW T n c "or" then 8 else if lx_isW T n c "xor" then 9 else 0
def kk_and (c : Nat) : Int32 := if lx_isW T n c "and" then 10 else 0
def kk_sum (c : Nat) : Int32 := if lx_kind T n c = 43 then 17 else if lx_kind T n c = 45 then 18 else 0
def kk_prd (c : Nat) : Int32 := if lx_kind T n c = 42 then 19 else if lx_isW T n c "div" then 20 else if lx_isW T n c "mod" then 21 else 0
def kk_una (c : Nat) : Int32 := if lx_kind T n c = 45 then 22 else if lx_isW T n c "not" then 23 else if lx_isW T n c "pre" then 24 else if lx_isW T n c "current" then 25 else 0
def pp_expr (d c : Nat) (S : MS) : Option PE :=
  if 40 < d then pr_er 3 c
  else if lx_isW T n c "if" then
    pr_b (rec 0 (d + 1) 0 [] (lx_next T n c) S) fun x c1 S1 =>
    if lx_isW T n c1 "then" then
      pr_b (rec 0 (d + 1) 0 [] (lx_next T n c1) S1) fun y c2 S2 =>
      if lx_isW T n c2 "else" then
        pr_b (rec 0 (d + 1) 0 [] (lx_next T n c2) (ml_sa S2 35 x (nI y))) fun w c3 S3 => pr_make (ml_sa S3 35 y (nI w)) 4 0 [x, y, w] c3
      else pr_er 1 c2
    else pr_er 1 c1
  else
    pr_b (rec 1 d 0 [] c S) fun x c1 S1 =>
    if lx_kind T n c1 = 303 then pr_b (rec 0 (d + 1) 0 [] (lx_next T n c1) S1) fun y c2 S2 => pr_two S2 5 x y c2
    else if lx_isW T n c1 "fby" then pr_b (rec 0 (d + 1) 0 [] (lx_next T n c1) S1) fun y c2 S2 => pr_two S2 6 x y c2
    else pr_ok x c1 S1
def pp_impl (d c : Nat) (S : MS) : Option PE :=
  if 40 < d then pr_er 3 c
  else pr_b (rec 2 d 0 [] c S) fun x c1 S1 =>
    if lx_kind T n c1 = 304 then pr_b (rec 1 (d + 1) 0 [] (lx_next T n c1) S1) fun y c2 S2 => pr_two S2 7 x y c2 else pr_ok x c1 S1
def pp_fst (m ml d c : Nat) (S : MS) : Option PE := pr_b (rec m d 0 [] c S) fun x c1 S1 => rec ml d x [] c1 S1
def pp_lp (m ml : Nat) (K : Nat → Int32) (d a c : Nat) (S : MS) : Option PE :=
  if K c = 0 then pr_ok a c S
  else pr_b (rec m d 0 [] (lx_next T n c) S) fun b c1 S1 => pr_b (pr_two S1 (K c) a b c1) fun x c2 S2 => rec ml d x [] c2 S2
def pp_cmp (d c : Nat) (S : MS) : Option PE :=
  pr_b (rec 7 d 0 [] c S) fun x c1 S1 =>
    if pr_cmp (lx_kind T n c1) = 0 then pr_ok x c1 S1 else pr_b (rec 7 d 0 [] (lx_next T n c1) S1) fun y c2 S2 => pr_two S2 (pr_cmp (lx_kind T n c1)) x y c2
def pp_una (d c : Nat) (S : MS) : Option PE :=
  if 40 < d then pr_er 3 c
  else if kk_una T n c = 0 then pr_b (rec 13 d 0 [] c S) fun x c1 S1 => rec 12 d x [] c1 S1
  else pr_b (rec 11 (d + 1) 0 [] (lx_next T n c) S) fun x c1 S1 => pr_make S1 (kk_una T n c) 0 [x] c1
/-- the variable named at c, the node named at c -/
def pr_fv (S : MS) (c : Nat) : Nat := lx_find (lx_vs S n c) (pr_a S) (pr_v S)
def pr_fn (S : MS) (c : Nat) : Nat := lx_find (lx_ns S n c) 0 (pr_N S)
/-- the clock by the variable at c, behind 'when' -/
def pr_wh (s c : Nat) (S : MS) (K : Int32 → Option PE) : Option PE :=
  if ¬ lx_name T n c then pr_er 1 c
  else if ¬ pr_fv n S c < pr_v S ∨ S.2 24 (pr_fv n S c) = 0 then pr_er 2 c
  else if ¬ md_dep S (pr_a S) (pr_fv n S c + 1) (pr_fv n S c) < 8 then pr_er 3 c
  else K (nI (2 * (pr_fv n S c - pr_a S) + s))
def pp_wh (d a c : Nat) (S : MS) : Option PE :=
  if ¬ lx_isW T n c "when" then pr_ok a c S
  else if lx_isW T n (lx_next T n c) "not" then
    pr_wh T n 0 (lx_next T n (lx_next T n c)) S fun w => pr_b (pr_make S 26 w [a] (lx_next T n (lx_next T n (lx_next T n c)))) fun x c2 S2 => rec 12 d x [] c2 S2
  else pr_wh T n 1 (lx_next T n c) S fun w => pr_b (pr_make S 26 w [a] (lx_next T n (lx_next T n c))) fun x c2 S2 => rec 12 d x [] c2 S2
def pp_atom (d c : Nat) (S : MS) : Option PE :=
  if lx_kind T n c = 2 then pr_make S 0 (pr_dig T (lx_end T n c) c 0) [] (lx_next T n c)
  else if lx_isW T n c "true" then pr_make S 1 1 [] (lx_next T n c)
  else if lx_isW T n c "false" then pr_make S 1 0 [] (lx_next T n c)
  else if lx_kind T n c = 40 then pr_b (rec 0 (d + 1) 0 [] (lx_next T n c) S) fun x c1 S1 => if lx_kind T n c1 = 41 then pr_ok x (lx_next T n c1) S1 else pr_er 1 c1
  else if ¬ lx_name T n c then pr_er 1 c
  else if lx_kind T n (lx_next T n c) = 40 then (if pr_fn n S c < pr_N S then rec 14 d (pr_fn n S c) [] (lx_next T n c) S else pr_er 2 c)
  else if pr_fv n S c < pr_v S then pr_make S 2 (nI (pr_fv n S c - pr_a S)) [] (lx_next T n c)
  else pr_er 2 c
def pp_call (d k c : Nat) (S : MS) : Option PE :=
  if lx_kind T n c = 40 then pr_b (rec 0 (d + 1) 0 [] (lx_next T n c) S) fun x c1 S1 => rec 15 d k [x] c1 S1 else pr_er 1 c
def pp_args (d k : Nat) (l : List Nat) (c : Nat) (S : MS) : Option PE :=
  if lx_kind T n c = 44 then pr_b (rec 0 (d + 1) 0 [] (lx_next T n c) S) fun x c1 S1 => rec 15 d k (l ++ [x]) c1 (ml_sa S1 35 (l.getLastD 0) (nI x))
  else if lx_kind T n c = 41 then pr_call S k l (lx_next T n c) else pr_er 1 c
end
def pp (T : Nat → Int32) (n : Nat) : Nat → PF
  | 0 => fun _ _ _ _ _ _ => none
  | f + 1 => fun m d a l c S => match m with
    | 0 => pp_expr T n (pp T n f) d c S
    | 1 => pp_impl T n (pp T n f) d c S
    | 2 => pp_fst (pp T n f) 4 3 d c S
    | 3 => pp_lp T n (pp T n f) 4 3 (kk_or T n) d a c S
    | 4 => pp_fst (pp T n f) 6 5 d c S
    | 5 => pp_lp T n (pp T n f) 6 5 (kk_and T n) d a c S
    | 6 => pp_cmp T n (pp T n f) d c S
    | 7 => pp_fst (pp T n f) 9 8 d c S
    | 8 => pp_lp T n (pp T n f) 9 8 (kk_sum T n) d a c S
    | 9 => pp_fst (pp T n f) 11 10 d c S
    | 10 => pp_lp T n (pp T n f) 11 10 (kk_prd T n) d a c S
    | 11 => pp_una T n (pp T n f) d c S
    | 12 => pp_wh T n (pp T n f) d a c S
    | 13 => pp_atom T n (pp T n f) d c S
    | 14 => pp_call T n (pp T n f) d a c S
    | 15 => pp_args T n (pp T n f) d a l c S
    | _ => none
