/-! refuse, thrown, fault, end, feed of the reference -/
set_option maxRecDepth 100000
theorem X6_refuse_0 {z : MZ} {d : Nat} {k : Int32} {σ : MS} : ml_C z mX6_refuse d 0 [vR (some z.2.1), vI k, vI 0] σ (fun v σ' _ => v = some (vI 0) ∧ σ' = σ) (fun _ _ _ => False) := by
  refine ml_C_of (by decide) rfl (Nat.le_of_ble_eq_true rfl) ?_
  exact mbrefuse_0 (fun _ => mbrefuse_9 rfl (fun _ _ => ⟨rfl, rfl⟩)) (fun h => absurd rfl h)
theorem X6_refuse_1 {z : MZ} {d : Nat} {k : Int32} {σ : MS} : ml_C z mX6_refuse d 0 [vR (some z.2.1), vI k, vI 1] σ (fun v σ' _ => v = some (vI 1) ∧ σ' = ml_sf σ 2 k) (fun _ _ _ => False) := by
  refine ml_C_of (by decide) rfl (Nat.le_of_ble_eq_true rfl) ?_
  exact mbrefuse_0 (fun h => absurd h (by decide)) (fun _ => mbrefuse_4 (mbrefuse_9 rfl (fun _ _ => ⟨rfl, rfl⟩)))
theorem X6_thrown_C {z : MZ} {d : Nat} {σ : MS} : ml_C z mX6_thrown d 0 [vR (some z.2.1)] σ (fun v σ' _ => v = some (vI (σ.1 2)) ∧ σ' = σ) (fun _ _ _ => False) := by
  refine ml_C_of (by decide) rfl (Nat.le_of_ble_eq_true rfl) ?_
  exact mbthrown_0 (fun _ _ => ⟨rfl, rfl⟩)
theorem X6_fault_C {z : MZ} {d : Nat} {x : Int32} {σ : MS} : ml_C z mX6_fault d 0 [vR (some z.2.1), vI x] σ (fun v σ' _ => v = some (vI (if x = 0 then σ.1 3 else if x = 1 then σ.1 4 else -1)) ∧ σ' = ml_sf σ 2 0) (fun _ _ _ => False) := by
  refine ml_C_of (by decide) rfl (Nat.le_of_ble_eq_true rfl) ?_
  refine mbfault_0 (fun h => mbfault_16 (fun h2 => mbfault_28 (mbfault_29 (fun _ _ => ⟨?_, rfl⟩))) (fun h2 => mbfault_21 (mbfault_29 (fun _ _ => ⟨?_, rfl⟩)))) (fun h => mbfault_9 (mbfault_29 (fun _ _ => ⟨?_, rfl⟩)))
  · rw [if_neg h, if_neg h2]
  · rw [if_neg h, if_pos h2]; rfl
  · rw [if_pos h]; rfl
theorem X6_end_C {z : MZ} {d : Nat} {x : Int32} {σ : MS} (hd : 1 ≤ d) : ml_C z mX6_end d 0 [vR (some z.2.1), vI x] σ (fun v σ' _ => (¬ x < 0 ∧ x ≤ σ.1 1 ∧ v = some (vI x) ∧ σ' = ml_sf (ml_sf σ 2 0) 1 x) ∨ (¬ (¬ x < 0 ∧ x ≤ σ.1 1) ∧ v = some (vI 0) ∧ σ' = ml_sf σ 2 1)) (fun _ _ _ => False) := by
  refine ml_C_of (by decide) rfl (Nat.le_of_ble_eq_true rfl) ?_
  have bad : ∀ E, ¬ (¬ x < 0 ∧ x ≤ σ.1 1) → ml_V z mX6_end (d, 0, (fun v σ' _ => (¬ x < 0 ∧ x ≤ σ.1 1 ∧ v = some (vI x) ∧ σ' = ml_sf (ml_sf σ 2 0) 1 x) ∨ (¬ (¬ x < 0 ∧ x ≤ σ.1 1) ∧ v = some (vI 0) ∧ σ' = ml_sf σ 2 1)), fun _ _ _ => False) 19 [(0, vR (some z.2.1)), (1, vI x)] [vI (1 : Int32), vR (some z.2.1)] (ml_sf σ 2 0) E 0 := by
    intro E h
    refine mbend_19 (mbend_24 (X6_refuse_1 (d := 0)) hd (Nat.zero_le _) (ml_kr fun v σ' g => ?_) ml_no)
    obtain ⟨rfl, rfl⟩ := g
    exact mbend_27 (fun q => absurd q (by decide)) (fun _ => mbend_30 (fun _ _ => Or.inr ⟨h, rfl, ml_sf_sf⟩))
  refine mbend_0 (fun h => bad _ (fun u => u.1 h)) (fun h => ?_)
  refine mbend_11 (fun q => ?_) (fun q => bad _ (fun u => q u.2))
  refine mbend_23 (mbend_24 (X6_refuse_0 (d := 0)) hd (Nat.zero_le _) (ml_pure ?_) ml_no)
  exact mbend_27 (fun _ => mbend_32 (fun _ => Or.inl ⟨h, q, rfl, rfl⟩)) (fun u => absurd rfl u)
/-- byte k of what is fed -/
def md_sel (a b c d e : Int32) (k : Nat) : Int32 := if k < 4 then a else if k < 8 then b else if k < 12 then c else if k < 16 then d else e
def md_byte (a b c d e : Int32) (k : Nat) : Int32 := ((((md_sel a b c d e k).toUInt32 >>> (((24 : Int32) - ((8 : Int32) * (nI k - nI k / (4 : Int32) * (4 : Int32)))).toUInt32 &&& Int32.toUInt32 31)).toInt32).toInt8.toInt32).toInt8.toInt32
/-- the state after k bytes f -/
def md_fd (σ : MS) (f : Nat → Int32) : Nat → MS
  | 0 => σ
  | k + 1 => ml_sa (ml_sf (md_fd σ f k) 1 ((md_fd σ f k).1 1 + 1)) 0 ((md_fd σ f k).1 1).toNatClampNeg (f k)
theorem md_fd_1 {σ : MS} {f : Nat → Int32} {n : Nat} (h : σ.1 1 = nI n) : ∀ k, (md_fd σ f k).1 1 = nI (n + k) := by
  intro k
  induction k with
  | zero => exact h
  | succ k ih =>
    show (md_fd σ f k).1 1 + 1 = _
    rw [ih, nI_1]
    rfl
theorem md_feed_V {z : MZ} {jm : MJ} {n : Nat} {σ : MS} {a b c d e : Int32} (h : σ.1 1 = nI n) (hn : n ≤ 65516) (hP : ∀ G, jm.2.2.1 (some (vI (nI (n + 20)))) (md_fd σ (md_byte a b c d e) 20) G) : ∀ k i E, i + k = 20 → ml_V z mX6_feed jm 33 [(0, vR (some z.2.1)), (1, vI a), (2, vI b), (3, vI c), (4, vI d), (5, vI e), (6, vI (nI i))] [] (md_fd σ (md_byte a b c d e) i) E jm.2.1 := by
  intro k
  induction k with
  | zero =>
    intro i E hi
    have e20 : i = 20 := by omega
    subst e20
    refine mbfeed_33 (fun _ => mbfeed_124 (fun G _ => ?_)) (fun q => absurd (nI_le (a := 20) (Nat.le_refl 20) (by decide)) q)
    rw [md_fd_1 h]
    exact hP G
  | succ k ih =>
    intro i E hi
    refine mbfeed_33 (fun q => absurd q (nI_ge (b := 20) (by omega) (by decide))) (fun _ => ?_)
    have go : ∀ E, ml_V z mX6_feed jm 86 [(0, vR (some z.2.1)), (1, vI a), (2, vI b), (3, vI c), (4, vI d), (5, vI e), (6, vI (nI i))] [vI (md_sel a b c d e i)] (md_fd σ (md_byte a b c d e) i) E jm.2.1 := by
      intro E
      refine mbfeed_86 (by decide) (by rw [md_fd_1 h]; exact vp_in_nI (by omega) (by decide)) ?_
      rw [nI_1]
      exact ih (i + 1) _ (by omega)
    have lt : ∀ m : Nat, m ≤ 20 → ¬ (nI m ≤ nI i) → i < m := fun m hm q => Nat.lt_of_not_le fun u => q (nI_le u (by omega))
    have ge : ∀ m : Nat, m ≤ 20 → nI m ≤ nI i → ¬ i < m := fun m hm q => by
      have := (nI_leI (by omega) (by omega)).1 q
      omega
    refine mbfeed_40 (fun q4 => ?_) (fun q => mbfeed_46 ?_)
    · have g4 := ge 4 (by omega) q4
      refine mbfeed_50 (fun q8 => ?_) (fun q => mbfeed_57 ?_)
      · have g8 := ge 8 (by omega) q8
        refine mbfeed_61 (fun q12 => ?_) (fun q => mbfeed_68 ?_)
        · have g12 := ge 12 (by omega) q12
          refine mbfeed_72 (fun q16 => mbfeed_84 ?_) (fun q => mbfeed_79 ?_)
          · have g16 := ge 16 (by omega) q16
            have := go E
            rw [md_sel, if_neg g4, if_neg g8, if_neg g12, if_neg g16] at this
            exact this
          · have := go E
            rw [md_sel, if_neg g4, if_neg g8, if_neg g12, if_pos (lt 16 (by omega) q)] at this
            exact this
        · have := go E
          rw [md_sel, if_neg g4, if_neg g8, if_pos (lt 12 (by omega) q)] at this
          exact this
      · have := go E
        rw [md_sel, if_neg g4, if_pos (lt 8 (by omega) q)] at this
        exact this
    · have := go E
      rw [md_sel, if_pos (lt 4 (by omega) q)] at this
      exact this
