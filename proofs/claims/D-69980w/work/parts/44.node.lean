/-! nodeHere, shallow of the reference -/
set_option maxRecDepth 100000
theorem lx_nh_V {z : MZ} {jm : MJ} {n c b : Nat} {σ : MS} (h : lx_I n c σ) (hS : lx_S n c σ) (hN : σ.1 18 = nI b) (hb : b ≤ 60) (ho : lx_ok σ n 10 11 b) (hd : 1 ≤ jm.1) : ∀ k a E, b ≤ a + k → a ≤ b → (∀ G, jm.2.2.1 (some (vI (lx_res1 (lx_ns σ n c) a b))) σ G) → ml_V z mX6_nodeHere jm 2 [(0, vR (some z.2.1)), (1, vI (nI a))] [] σ E jm.2.1 := by
  intro k
  induction k with
  | zero =>
    intro a E h1 h2 h3
    refine mbnodeHere_2 (fun _ => mbnodeHere_37 (fun G _ => ?_)) (fun q => absurd (by rw [hN]; exact nI_le (by omega) (by omega)) q)
    have := h3 G
    rw [lx_res1, lx_find_0 (by omega), if_neg (by omega)] at this
    exact this
  | succ k ih =>
    intro a E h1 h2 h3
    refine mbnodeHere_2 (fun q => mbnodeHere_37 (fun G _ => ?_)) (fun q => ?_)
    · rw [hN] at q
      have q1 := (nI_leI (by omega) (by omega)).1 q
      have := h3 G
      rw [lx_res1, lx_find_0 (by omega), if_neg (by omega)] at this
      exact this
    · rw [hN] at q
      have q1 : a < b := Nat.lt_of_not_le fun u => q (nI_le u (by omega))
      obtain ⟨p, m, e1, e2, hpm⟩ := ho a q1
      have hn := h.1
      have hcl : (nI a).toNatClampNeg = a := nI_clamp (by omega)
      have hv : lx_ns σ n c a = decide (lx_sp (σ.2 0) n c p m) := by rw [lx_ns, e1, e2, nI_clamp (by omega), nI_clamp (by omega)]
      refine mbnodeHere_10 (P := fun v σ' _ => v = some (vI (if lx_sp (σ.2 0) n c p m then 1 else 0)) ∧ σ' = σ) (PX := fun _ _ _ => False) (d' := 0) (b' := 0) (vp_in_nI (by omega) (by decide)) (by rw [hcl, e1, e2]; exact X6_spelled_P h hS hpm) hd (Nat.zero_le _) (ml_pure ?_) ml_no
      refine mbnodeHere_26 (fun q => ?_) (fun q => ?_)
      · have q2 := lx_b0.1 q
        refine mbnodeHere_31 ?_
        rw [nI_1]
        refine ih (a + 1) _ (by omega) (by omega) (fun G => ?_)
        have := h3 G
        rw [lx_res1, lx_find_1 q1 (by rw [hv]; exact decide_eq_false q2)] at this
        exact this
      · have q2 := lx_b1 q
        refine mbnodeHere_29 (fun G _ => ?_)
        have := h3 G
        rw [lx_res1, lx_find_0 (fun u => by rw [hv, decide_eq_true q2] at u; exact absurd u.2 (by decide)), if_pos q1] at this
        exact this
theorem X6_nodeHere_P {z : MZ} {d n c b : Nat} {σ : MS} (h : lx_I n c σ) (hS : lx_S n c σ) (hN : σ.1 18 = nI b) (hb : b ≤ 60) (ho : lx_ok σ n 10 11 b) (hd : 1 ≤ d) : ml_C z mX6_nodeHere d 0 [vR (some z.2.1)] σ (fun v σ' _ => v = some (vI (lx_res1 (lx_ns σ n c) 0 b)) ∧ σ' = σ) (fun _ _ _ => False) := by
  refine ml_C_of (by decide) rfl (Nat.le_of_ble_eq_true rfl) ?_
  refine mbnodeHere_0 ?_
  exact lx_nh_V h hS hN hb ho hd b 0 _ (by omega) (Nat.zero_le b) (fun G => ⟨rfl, rfl⟩)
