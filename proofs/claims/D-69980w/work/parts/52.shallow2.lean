/-! shallow of the reference: its contract -/
set_option maxRecDepth 100000
theorem X6_shallow_P {z : MZ} {d n c a b v N : Nat} {σ : MS} (hS : lx_S n c σ) (hb : b ≤ 6000) (hck : md_ck σ a b) (hN : σ.1 18 = nI N) (hN2 : N < 61) (ha : σ.2 12 N = nI a) (hd : 5 ≤ d) (h1 : a ≤ v) (h2 : v < b) : ml_C z mX6_shallow d 1 [vR (some z.2.1), vI (nI v)] σ (fun u σ' _ => md_dep σ a (v + 1) v < 8 ∧ u = none ∧ σ' = σ) (fun kd pl σ' => ¬ md_dep σ a (v + 1) v < 8 ∧ kd = 3 ∧ pl = nI c ∧ σ' = σ) := by
  refine ml_C_of (by decide) rfl (Nat.le_of_ble_eq_true rfl) ?_
  refine mbshallow_0 ?_
  refine md_sh_V hS hb hck hN hN2 ha hd (Nat.le_refl 1) (v + 1) v 0 _ (by omega) h1 h2 (by omega) ?_ ?_
  · intro q G
    exact ⟨by omega, rfl, rfl⟩
  · intro q
    exact ⟨by omega, rfl, rfl, rfl⟩
