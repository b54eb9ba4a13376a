/-! sign, peek, take of the reference -/
set_option maxRecDepth 100000
theorem ml_pure {z : MZ} {M : MI} {jm : MJ} {pc r : Nat} {lv : List (Nat × WV)} {st : List WV} {σ : MS} {v0 : WV} (k : ml_V z M jm pc lv (v0 :: st) σ (fun _ => True) r) : ∀ v σ', ml_V z M jm pc lv (v.toList ++ st) σ' (fun _ => v = some v0 ∧ σ' = σ) r := fun v σ' G g1 g2 g3 => by
  obtain ⟨rfl, rfl⟩ := g3
  exact k G g1 g2 trivial
theorem ml_pure0 {z : MZ} {M : MI} {jm : MJ} {pc r : Nat} {lv : List (Nat × WV)} {st : List WV} {σ : MS} (k : ml_V z M jm pc lv st σ (fun _ => True) r) : ∀ v σ', ml_V z M jm pc lv (v.toList ++ st) σ' (fun _ => v = none ∧ σ' = σ) r := fun v σ' G g1 g2 g3 => by
  obtain ⟨rfl, rfl⟩ := g3
  exact k G g1 g2 trivial
theorem ml_no {Q : Int32 → Int32 → MS → Prop} : ∀ (kd pl : Int32) (σ' : MS), False → Q kd pl σ' := fun _ _ _ q => absurd q id
theorem lx_b0 {p : Prop} {i : Decidable p} : (@ite Int32 p i 1 0 = 0) ↔ ¬ p := by
  split
  · exact ⟨fun h => absurd h (by decide), fun h => absurd ‹p› h⟩
  · exact ⟨fun _ => ‹¬ p›, fun _ => rfl⟩
theorem X6_sign_C {z : MZ} {d : Nat} {σ : MS} {x0 x1 : Int32} : ml_C z mX6_sign d 0 [vI x0, vI x1] σ (fun v σ' _ => v = some (vI (lx_sign x0 x1)) ∧ σ' = σ) (fun _ _ _ => False) := by
  refine ml_C_of (by decide) rfl (Nat.le_of_ble_eq_true rfl) ?_
  have r108 : ∀ E, lx_sign x0 x1 = x0 → ml_V z mX6_sign (d, 0, (fun v σ' _ => v = some (vI (lx_sign x0 x1)) ∧ σ' = σ), fun _ _ _ => False) 108 [(0, vI x0)] [] σ E 0 := fun E h => mbsign_108 (fun _ _ => ⟨by rw [h], rfl⟩)
  have r178 : ∀ E, lx_sign x0 x1 = 3 → ml_V z mX6_sign (d, 0, (fun v σ' _ => v = some (vI (lx_sign x0 x1)) ∧ σ' = σ), fun _ _ _ => False) 178 [] [] σ E 0 := fun E h => mbsign_178 (fun _ _ => ⟨by rw [h], rfl⟩)
  refine mbsign_0 (fun h => r108 _ (by subst h; simp [lx_sign])) (fun h => r108 _ (by subst h; simp [lx_sign])) (fun h => r108 _ (by subst h; simp [lx_sign])) (fun h => r108 _ (by subst h; simp [lx_sign])) (fun h => r108 _ (by subst h; simp [lx_sign])) ?_
    (fun h => r178 _ (by subst h; simp [lx_sign])) (fun h => r178 _ (by subst h; simp [lx_sign])) (fun h => r178 _ (by subst h; simp [lx_sign])) (fun h => r178 _ (by subst h; simp [lx_sign])) (fun h => r178 _ (by subst h; simp [lx_sign])) (fun h => r178 _ (by subst h; simp [lx_sign])) (fun h => r178 _ (by subst h; simp [lx_sign])) (fun h => r178 _ (by subst h; simp [lx_sign])) (fun h => r178 _ (by subst h; simp [lx_sign])) (fun h => r178 _ (by subst h; simp [lx_sign])) (fun h => r178 _ (by subst h; simp [lx_sign])) (fun h => r178 _ (by subst h; simp [lx_sign]))
    (fun h => r108 _ (by subst h; simp [lx_sign])) (fun h => r108 _ (by subst h; simp [lx_sign])) ?_ ?_ ?_ ?_
  · exact fun h => mbsign_164 (fun q => mbsign_176 (mbsign_177 (fun _ _ => ⟨by subst h; simp [lx_sign, q], rfl⟩))) (fun q => mbsign_170 (mbsign_177 (fun _ _ => ⟨by subst h; simp [lx_sign, q], rfl⟩)))
  · exact fun h => mbsign_124 (fun q => mbsign_136 (fun q2 => mbsign_148 (mbsign_149 (fun _ _ => ⟨by subst h; simp [lx_sign, q, q2], rfl⟩))) (fun q2 => mbsign_142 (mbsign_149 (fun _ _ => ⟨by subst h; simp [lx_sign, q2], rfl⟩)))) (fun q => mbsign_130 (mbsign_149 (fun _ _ => ⟨by subst h; simp [lx_sign, q], rfl⟩)))
  · exact fun h => mbsign_110 (fun q => mbsign_122 (mbsign_123 (fun _ _ => ⟨by subst h; simp [lx_sign, q], rfl⟩))) (fun q => mbsign_116 (mbsign_123 (fun _ _ => ⟨by subst h; simp [lx_sign, q], rfl⟩)))
  · exact fun h => mbsign_150 (fun q => mbsign_162 (mbsign_163 (fun _ _ => ⟨by subst h; simp [lx_sign, q], rfl⟩))) (fun q => mbsign_156 (mbsign_163 (fun _ _ => ⟨by subst h; simp [lx_sign, q], rfl⟩)))
  · intro h40 h41 h42 h43 h44 h45 h46 h47 h48 h49 h50 h51 h52 h53 h54 h55 h56 h57 h58 h59 h60 h61 h62
    exact r178 _ (by simp [lx_sign, h40, h41, h42, h43, h44, h45, h58, h59, h60, h61, h62])
def lx_wend (T : Nat → Int32) (n c : Nat) : Nat := if c < n ∧ (lx_lt (T c) ∨ lx_dg (T c) ∨ T c = 95) then lx_wend T n (c + 1) else c
termination_by n - c
decreasing_by omega
theorem lx_wend_1 {T : Nat → Int32} {n c : Nat} (h : c < n ∧ (lx_lt (T c) ∨ lx_dg (T c) ∨ T c = 95)) : lx_wend T n c = lx_wend T n (c + 1) := by rw [lx_wend, if_pos h]
theorem lx_wend_0 {T : Nat → Int32} {n c : Nat} (h : ¬ (c < n ∧ (lx_lt (T c) ∨ lx_dg (T c) ∨ T c = 95))) : lx_wend T n c = c := by rw [lx_wend, if_neg h]
theorem lx_wend_ge {T : Nat → Int32} {n : Nat} : ∀ f c, n ≤ c + f → c ≤ n → c ≤ lx_wend T n c ∧ lx_wend T n c ≤ n := by
  intro f
  induction f with
  | zero => intro c h hc; rw [lx_wend_0 (by omega)]; exact ⟨Nat.le_refl c, hc⟩
  | succ f ih =>
    intro c h hc
    rcases Decidable.em (c < n ∧ (lx_lt (T c) ∨ lx_dg (T c) ∨ T c = 95)) with h1 | h1
    · rw [lx_wend_1 h1]
      have := ih (c + 1) (by omega) (by omega)
      omega
    · rw [lx_wend_0 h1]; exact ⟨Nat.le_refl c, hc⟩
def lx_dend (T : Nat → Int32) (n c : Nat) : Nat := if c < n ∧ lx_dg (T c) then lx_dend T n (c + 1) else c
termination_by n - c
decreasing_by omega
theorem lx_dend_1 {T : Nat → Int32} {n c : Nat} (h : c < n ∧ lx_dg (T c)) : lx_dend T n c = lx_dend T n (c + 1) := by rw [lx_dend, if_pos h]
theorem lx_dend_0 {T : Nat → Int32} {n c : Nat} (h : ¬ (c < n ∧ lx_dg (T c))) : lx_dend T n c = c := by rw [lx_dend, if_neg h]
theorem lx_dend_ge {T : Nat → Int32} {n : Nat} : ∀ f c, n ≤ c + f → c ≤ n → c ≤ lx_dend T n c ∧ lx_dend T n c ≤ n := by
  intro f
  induction f with
  | zero => intro c h hc; rw [lx_dend_0 (by omega)]; exact ⟨Nat.le_refl c, hc⟩
  | succ f ih =>
    intro c h hc
    rcases Decidable.em (c < n ∧ lx_dg (T c)) with h1 | h1
    · rw [lx_dend_1 h1]
      have := ih (c + 1) (by omega) (by omega)
      omega
    · rw [lx_dend_0 h1]; exact ⟨Nat.le_refl c, hc⟩
def lx_kind (T : Nat → Int32) (n c : Nat) : Int32 :=
  if n ≤ c then 0 else if lx_lt (T c) then (if lx_wend T n c ≤ c + 31 then 1 else 3)
  else if lx_dg (T c) then (if lx_dend T n c ≤ c + 9 then 2 else 3) else lx_sign (T c) (lx_at T n (c + 1))
def lx_end (T : Nat → Int32) (n c : Nat) : Nat :=
  if n ≤ c then c else if lx_lt (T c) then lx_wend T n c
  else if lx_dg (T c) then lx_dend T n c else if 299 < lx_sign (T c) (lx_at T n (c + 1)) then c + 2 else c + 1
/-- a state that has peeked: pos, token, tokenAt, tokenEnd -/
def lx_st (σ : MS) (p t a e : Int32) : MS := (fun k => if k = 5 then p else if k = 6 then t else if k = 7 then a else if k = 8 then e else if k = 9 then 1 else σ.1 k, σ.2)
theorem lx_st_new {σ : MS} {p : Int32} : ml_sf (ml_sf (ml_sf (ml_sf (ml_sf σ 5 p) 9 1) 7 p) 8 p) 6 0 = lx_st σ p 0 p p := by
  refine Prod.ext (funext fun k => ?_) rfl
  show (if k = 6 then 0 else if k = 8 then p else if k = 7 then p else if k = 9 then 1 else if k = 5 then p else σ.1 k) = (if k = 5 then p else if k = 6 then 0 else if k = 7 then p else if k = 8 then p else if k = 9 then 1 else σ.1 k)
  repeat' split
  all_goals first | rfl | omega
theorem lx_st_8 {σ : MS} {p t a e v : Int32} : ml_sf (lx_st σ p t a e) 8 v = lx_st σ p t a v := by
  refine Prod.ext (funext fun k => ?_) rfl
  show (if k = 8 then v else if k = 5 then p else if k = 6 then t else if k = 7 then a else if k = 8 then e else if k = 9 then 1 else σ.1 k) = (if k = 5 then p else if k = 6 then t else if k = 7 then a else if k = 8 then v else if k = 9 then 1 else σ.1 k)
  repeat' split
  all_goals first | rfl | omega
theorem lx_st_6 {σ : MS} {p t a e v : Int32} : ml_sf (lx_st σ p t a e) 6 v = lx_st σ p v a e := by
  refine Prod.ext (funext fun k => ?_) rfl
  show (if k = 6 then v else if k = 5 then p else if k = 6 then t else if k = 7 then a else if k = 8 then e else if k = 9 then 1 else σ.1 k) = (if k = 5 then p else if k = 6 then v else if k = 7 then a else if k = 8 then e else if k = 9 then 1 else σ.1 k)
  repeat' split
  all_goals first | rfl | omega
