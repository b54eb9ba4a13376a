/-! Arrays.fill on the reference's arrays -/
set_option maxRecDepth 100000
/-- the first i elements of the array k are x -/
def md_fl (σ : MS) (k : Nat) (x : Int32) (i : Nat) : MS := ml_saA σ k (fun j => if j < i then x else σ.2 k j)
theorem md_fl_0 {σ : MS} {k : Nat} {x : Int32} : md_fl σ k x 0 = σ := by
  refine Prod.ext rfl (funext fun n => funext fun j => ?_)
  show (ml_saA σ k _).2 n j = σ.2 n j
  rw [ml_saA_a]
  split
  · rename_i e
    rw [if_neg (by omega), e]
  · rfl
theorem md_fl_s {σ : MS} {k i : Nat} {x : Int32} : ml_sa (md_fl σ k x i) k i x = md_fl σ k x (i + 1) := by
  refine Prod.ext rfl (funext fun n => funext fun j => ?_)
  show (ml_sa (ml_saA σ k _) k i x).2 n j = (ml_saA σ k _).2 n j
  rw [ml_sa_a, ml_saA_a, ml_saA_a]
  split
  · split
    · rw [if_pos (by omega)]
    · split
      · rw [if_pos (by omega)]
      · rw [if_neg (by omega)]
  · rfl
theorem ml_len_lt : ∀ k, ml_len k < 2 ^ 31 := by
  intro k
  unfold ml_len
  split <;> decide
theorem J17_fill_V {z : MZ} {j : JB} {r k : Nat} {x : Int32} {σ : MS} (hk : ml_ar k = 28) (hP : ∀ G, ml_W z (md_fl σ k x (ml_len k)) G → ml_FC z G → j.2.2.1 none G) : ∀ m i G, i + m = ml_len k → ml_W z (md_fl σ k x i) G → ml_FC z G → wk_V z.1 mJ17_fill j 5 [(0, vR (some (z.2.2.1 k))), (1, vI x), (2, vI (nI i)), (3, vI (nI (ml_len k)))] [] G r := by
  intro m
  have hl := ml_len_lt k
  induction m with
  | zero =>
    intro i G hi h1 h2
    have e : i = ml_len k := by omega
    rw [e] at h1 ⊢
    exact blJ17_fill_5 (fun _ => blJ17_fill_20 (hP G h1 h2)) (fun q => absurd (nI_le (Nat.le_refl _) hl) q)
  | succ m ih =>
    intro i G hi h1 h2
    obtain ⟨-, e2, e3, e4⟩ := h1.2.1 k (by omega)
    refine blJ17_fill_5 (fun q => absurd q (nI_ge (by omega) hl)) (fun _ => ?_)
    refine blJ17_fill_10 rfl (by rw [e3]; exact vp_in_nI (by omega) hl) e4 (e2.trans hk) ?_
    rw [nI_clamp (by omega), nI_1]
    have h3 := h1.sa (k := k) (j := i) (v := x) (by omega)
    rw [md_fl_s] at h3
    exact ih (i + 1) _ (by omega) h3 (h2.sI (Or.inr ⟨k, by omega, rfl⟩))
theorem J17_fill_M {z : MZ} {d k : Nat} {x : Int32} {σ : MS} (hk : ml_ar k = 28) : ml_C z mJ17_fill d 0 [vR (some (z.2.2.1 k)), vI x] σ (fun v σ' _ => v = none ∧ σ' = md_fl σ k x (ml_len k)) (fun _ _ _ => False) := by
  intro G h1 h2
  refine wk_C_of (by decide) rfl (Nat.le_of_ble_eq_true rfl) ?_
  obtain ⟨-, e2, e3, e4⟩ := h1.2.1 k (by omega)
  refine blJ17_fill_0 rfl (by rw [e2, hk]; decide) ?_
  rw [e3]
  refine J17_fill_V (σ := σ) hk ?_ (ml_len k) 0 G (by omega) (by rw [md_fl_0]; exact h1) h2
  intro G' g1 g2
  exact ⟨_, g1, g2, rfl, rfl⟩
