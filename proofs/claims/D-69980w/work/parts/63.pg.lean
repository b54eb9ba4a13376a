/-! THE PARSER AS A FUNCTION: groups of variables, left sides, equations -/
set_option maxRecDepth 100000
def pg_add (S : MS) (v c e : Nat) : MS := ml_sf (ml_sa (ml_sa (ml_sa (ml_sa S 20 v (nI c)) 21 v (nI (e - c))) 22 v (-1)) 23 v 0) 19 (nI (v + 1))
/-- the elements from a on below b of the array k are x -/
def pg_fill (S : MS) (k : Nat) (x : Int32) (a b : Nat) : MS := ml_saA S k (fun j => if a ≤ j ∧ j < b then x else S.2 k j)
theorem pg_fill_0 {S : MS} {k a : Nat} {x : Int32} : pg_fill S k x a a = S := by
  refine Prod.ext rfl (funext fun n => funext fun j => ?_)
  show (ml_saA S k _).2 n j = S.2 n j
  rw [ml_saA_a]
  split
  · rename_i e
    rw [if_neg (by omega), e]
  · rfl
theorem pg_fill_s {S : MS} {k a i : Nat} {x : Int32} (h : a ≤ i) : ml_sa (pg_fill S k x a i) k i x = pg_fill S k x a (i + 1) := by
  refine Prod.ext rfl (funext fun n => funext fun j => ?_)
  show (ml_sa (ml_saA S k _) k i x).2 n j = (ml_saA S k _).2 n j
  rw [ml_sa_a, ml_saA_a, ml_saA_a]
  split
  · split
    · rw [if_pos (by omega)]
    · split
      · rw [if_pos (by omega)]
      · rw [if_neg (by omega)]
  · rfl
section
variable (T : Nat → Int32) (n : Nat)
def pg_names : Nat → Nat → MS → Option PE
  | 0, _, _ => none
  | f + 1, c, S =>
    if ¬ lx_name T n c then pr_er 1 c
    else if pr_fv n S c < pr_v S then pr_er 2 c
    else if pr_v S = pr_a S + 99 then pr_er 3 c
    else if lx_kind T n (lx_next T n c) = 44 then pg_names f (lx_next T n (lx_next T n c)) (pg_add S (pr_v S) c (lx_end T n c))
    else pr_ok 0 (lx_next T n c) (pg_add S (pr_v S) c (lx_end T n c))
/-- the variable named at c, of those below b -/
def pg_fv (S : MS) (b c : Nat) : Nat := lx_find (lx_vs S n c) (pr_a S) b
def pg_wh (s b c : Nat) (S : MS) : Option PE :=
  if ¬ lx_name T n c then pr_er 1 c
  else if ¬ pg_fv n S b c < b ∨ S.2 24 (pg_fv n S b c) = 0 then pr_er 2 c
  else if ¬ md_dep S (pr_a S) (pg_fv n S b c + 1) (pg_fv n S b c) < 8 then pr_er 3 c
  else pr_ok 0 (lx_next T n c) (pg_fill S 22 (nI (2 * (pg_fv n S b c - pr_a S) + s)) b (pr_v S))
def pg_group (f : Nat) (vars : Bool) (c : Nat) (S : MS) : Option PE :=
  pr_b (pg_names T n f c S) fun _ c1 S1 =>
  if lx_kind T n c1 = 58 then
    if ¬ lx_isW T n (lx_next T n c1) "bool" ∧ ¬ lx_isW T n (lx_next T n c1) "int" then pr_er 1 (lx_next T n c1)
    else if vars = true ∧ lx_isW T n (lx_next T n (lx_next T n c1)) "when" then
      if lx_isW T n (lx_next T n (lx_next T n (lx_next T n c1))) "not" then pg_wh T n 0 (pr_v S) (lx_next T n (lx_next T n (lx_next T n (lx_next T n c1)))) (pg_fill S1 24 (if lx_isW T n (lx_next T n c1) "bool" then 1 else 0) (pr_v S) (pr_v S1))
      else pg_wh T n 1 (pr_v S) (lx_next T n (lx_next T n (lx_next T n c1))) (pg_fill S1 24 (if lx_isW T n (lx_next T n c1) "bool" then 1 else 0) (pr_v S) (pr_v S1))
    else pr_ok 0 (lx_next T n (lx_next T n c1)) (pg_fill S1 24 (if lx_isW T n (lx_next T n c1) "bool" then 1 else 0) (pr_v S) (pr_v S1))
  else pr_er 1 c1
/-- ';' group .. up to ')' -/
def pg_more (f0 : Nat) : Nat → Nat → MS → Option PE
  | 0, _, _ => none
  | f + 1, c, S => if lx_kind T n c = 59 then pr_b (pg_group T n f0 false (lx_next T n c) S) fun _ c1 S1 => pg_more f0 f c1 S1
    else if lx_kind T n c = 41 then pr_ok 0 (lx_next T n c) S else pr_er 1 c
def pg_groups (f : Nat) (c : Nat) (S : MS) : Option PE :=
  if lx_kind T n c = 40 then pr_b (pg_group T n f false (lx_next T n c) S) fun _ c1 S1 => pg_more T n f f c1 S1 else pr_er 1 c
/-- the local variables behind the first group -/
def pg_vars (f0 : Nat) : Nat → Nat → MS → Option PE
  | 0, _, _ => none
  | f + 1, c, S => if lx_name T n c then pr_b (pg_group T n f0 true c S) fun _ c1 S1 => if lx_kind T n c1 = 59 then pg_vars f0 f (lx_next T n c1) S1 else pr_er 1 c1 else pr_ok 0 c S
def pr_i (S : MS) : Nat := (S.2 13 (pr_N S)).toNatClampNeg
def pg_left (c : Nat) (S : MS) : Option PE :=
  if ¬ lx_name T n c then pr_er 1 c
  else if pr_fv n S c < pr_v S ∧ pr_a S + pr_i S ≤ pr_fv n S c then pr_ok (pr_fv n S c - pr_a S) (lx_next T n c) (ml_sa S 23 (pr_fv n S c) (S.2 23 (pr_fv n S c) + 1))
  else pr_er 2 c
def pr_k (S : MS) : Nat := (S.1 30).toNatClampNeg
def pr_l (S : MS) : Nat := (S.1 31).toNatClampNeg
/-- a left side more -/
def pe_left (c : Nat) (S : MS) : Option PE := pr_b (pg_left T n c (ml_sf S 31 (nI (pr_l S + 1)))) fun x c1 S1 => pr_ok 0 c1 (ml_sa S1 28 (pr_l S) (nI x))
def pe_lefts : Nat → Nat → MS → Option PE
  | 0, _, _ => none
  | f + 1, c, S => if lx_kind T n c = 44 then pr_b (pe_left T n (lx_next T n c) S) fun _ c1 S1 => pe_lefts f c1 S1 else pr_ok 0 c S
def pe_0 (S : MS) (k c : Nat) : MS := ml_sa (ml_sa (ml_sa S 25 k (nI c)) 26 k (S.1 31)) 29 k (S.1 40)
def pe_one (f k c : Nat) (S : MS) : Option PE :=
  pr_b (pe_left T n c S) fun _ c1 S1 =>
  if lx_kind T n c1 = 61 then pr_b (pp T n f 0 0 0 [] (lx_next T n c1) S1) fun e c2 S2 => pr_ok 0 c2 (ml_sa S2 27 k (nI e)) else pr_er 1 c1
def pe_many (f k c : Nat) (S : MS) : Option PE :=
  pr_b (pe_left T n (lx_next T n c) S) fun _ c1 S1 => pr_b (pe_lefts T n f c1 S1) fun _ c2 S2 =>
  if lx_kind T n c2 = 41 then
    if lx_kind T n (lx_next T n c2) = 61 then
      if ¬ lx_name T n (lx_next T n (lx_next T n c2)) then pr_er 1 (lx_next T n (lx_next T n c2))
      else if pr_fn n S2 (lx_next T n (lx_next T n c2)) < pr_N S2 then
        pr_b (pp T n f 14 0 (pr_fn n S2 (lx_next T n (lx_next T n c2))) [] (lx_next T n (lx_next T n (lx_next T n c2))) S2) fun e c3 S3 => pr_ok 0 c3 (ml_sa S3 27 k (nI e))
      else pr_er 2 (lx_next T n (lx_next T n c2))
    else pr_er 1 (lx_next T n c2)
  else pr_er 1 c2
def pe_end (k : Nat) (c : Nat) (S : MS) : Option PE :=
  if lx_kind T n c = 59 then pr_ok 0 (lx_next T n c) (ml_sa (ml_sf S 30 (nI (k + 1))) 26 (k + 1) (S.1 31)) else pr_er 1 c
def pe_eq (f c : Nat) (S : MS) : Option PE :=
  pr_b (if lx_kind T n c = 40 then pe_many T n f (pr_k S) c (pe_0 S (pr_k S) c) else pe_one T n f (pr_k S) c (pe_0 S (pr_k S) c)) fun _ c1 S1 => pe_end T n (pr_k S) c1 S1
/-- equations up to 'tel' -/
def pe_eqs (f0 : Nat) : Nat → Nat → MS → Option PE
  | 0, _, _ => none
  | f + 1, c, S => pr_b (pe_eq T n f0 c S) fun _ c1 S1 => if lx_isW T n c1 "tel" then pr_ok 0 c1 S1 else pe_eqs f0 f c1 S1
end
