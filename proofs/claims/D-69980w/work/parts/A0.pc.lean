/-! partCauses of the reference: the contract -/
set_option maxRecDepth 100000
section
variable {z : MZ} {x root lo d : Nat} {σ : MS}
theorem X6_partCauses_C (hx : x < 3200) (hr : root < 66000) (hlo : σ.2 45 root = nI lo) (hle : lo ≤ root) (h67 : ¬ σ.1 67 < 0) (hH : ∀ e, lo ≤ e → e ≤ root → pcs_H σ x root e) (hd : 2 ≤ d) : ml_C z mX6_partCauses d 0 [vR (some z.2.1), vI (nI x), vI (nI root)] σ (fun u σ' _ => u = none ∧ σ' = pcs x root (root + 1 - lo) lo σ ∧ cs_same σ σ') (fun _ _ _ => False) := by
  refine ml_C_of (by decide) rfl (Nat.le_of_ble_eq_true rfl) ?_
  refine mbpartCauses_0 (vp_in_nI hr (by decide)) ?_
  rw [nI_clamp (by omega), hlo]
  exact pcs_V hx hr hd (root + 1 - lo) lo σ _ (by omega) h67 hH (fun h G => ⟨rfl, rfl, h⟩)
end
