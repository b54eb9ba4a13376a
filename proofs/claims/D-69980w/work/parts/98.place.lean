/-! placeOfVariable of the reference -/
set_option maxRecDepth 100000
/-- the first equation from k on whose body isn't before c -/
def md_qe (σ : MS) (c : Int32) : Nat → Nat → Nat
  | 0, k => k
  | f + 1, k => if c ≤ σ.2 27 k then k else md_qe σ c f (k + 1)
def md_pl (σ : MS) (v : Nat) : Int32 :=
  if σ.2 64 v < σ.2 13 (σ.2 56 (σ.2 63 v).toNatClampNeg).toNatClampNeg then σ.2 25 (md_qe σ (σ.2 58 (σ.2 63 v).toNatClampNeg) 17000 (σ.2 15 (σ.2 56 (σ.2 57 (σ.2 63 v).toNatClampNeg).toNatClampNeg).toNatClampNeg).toNatClampNeg)
  else σ.2 25 (σ.2 46 (σ.2 12 (σ.2 56 (σ.2 63 v).toNatClampNeg).toNatClampNeg + σ.2 64 v).toNatClampNeg).toNatClampNeg
section
variable {z : MZ} {σ : MS}
theorem place_V {jm : MJ} {x k9 : Nat} (hx : x < 3200) (h9 : k9 < 17000) (hc : σ.2 58 x ≤ σ.2 27 k9) : ∀ f k E, k9 < k + f → k ≤ k9 → (∀ G, jm.2.2.1 (some (vI (σ.2 25 (md_qe σ (σ.2 58 x) f k)))) σ G) → ml_V z mX6_placeOfVariable jm 71 [(0, vR (some z.2.1)), (2, vI (nI x)), (5, vI (nI k))] [] σ E jm.2.1 := by
  intro f
  induction f with
  | zero => intro k E h1 h2; omega
  | succ f ih =>
    intro k E h1 h2 hP
    have ck : (nI k).toNatClampNeg = k := nI_clamp (by omega)
    have cx : (nI x).toNatClampNeg = x := nI_clamp (by omega)
    have vk : vp_in (nI k) 17000 := vp_in_nI (by omega) (by decide)
    rw [md_qe] at hP
    refine mbplaceOfVariable_71 vk (vp_in_nI hx (by decide)) (fun q => ?_) (fun q => ?_)
    · rw [cx, ck] at q
      rw [if_pos q] at hP
      refine mbplaceOfVariable_93 vk (fun G _ => ?_)
      rw [ck]
      exact hP G
    · rw [cx, ck] at q
      rw [if_neg q] at hP
      refine mbplaceOfVariable_87 ?_
      rw [nI_1]
      have hne : k ≠ k9 := fun u => q (by rw [u]; exact hc)
      exact ih (k + 1) _ (by omega) (by omega) hP
theorem X6_placeOfVariable_C {d v x g : Nat} (hv : v < 6100) (h63 : σ.2 63 v = nI x) (hx : x < 3200) (h56 : σ.2 56 x = nI g) (hg : g < 60)
    (h0 : ¬ σ.2 64 v < σ.2 13 g → vp_in (σ.2 12 g + σ.2 64 v) 6000 ∧ vp_in (σ.2 46 (σ.2 12 g + σ.2 64 v).toNatClampNeg) 17000)
    (h1 : σ.2 64 v < σ.2 13 g → ∃ y g2 q k9, y < 3200 ∧ σ.2 57 x = nI y ∧ σ.2 56 y = nI g2 ∧ g2 < 61 ∧ σ.2 15 g2 = nI q ∧ q ≤ k9 ∧ k9 < 17000 ∧ σ.2 58 x ≤ σ.2 27 k9) :
    ml_C z mX6_placeOfVariable d 0 [vR (some z.2.1), vI (nI v)] σ (fun u σ' _ => u = some (vI (md_pl σ v)) ∧ σ' = σ) (fun _ _ _ => False) := by
  refine ml_C_of (by decide) rfl (Nat.le_of_ble_eq_true rfl) ?_
  have cv : (nI v).toNatClampNeg = v := nI_clamp (by omega)
  have cx : (nI x).toNatClampNeg = x := nI_clamp (by omega)
  have cg : (nI g).toNatClampNeg = g := nI_clamp (by omega)
  unfold md_pl
  rw [h63, cx, h56, cg]
  refine mbplaceOfVariable_0 (vp_in_nI hv (by decide)) (by rw [cv, h63]; exact vp_in_nI hx (by decide)) (by rw [cv, h63, cx, h56]; exact vp_in_nI hg (by decide)) (fun q => ?_) (fun q => ?_)
  · rw [cv, h63, cx, h56, cg] at q
    rw [cv, h63]
    obtain ⟨y, g2, qq, k9, a1, a2, a3, a4, a5, a6, a7, a8⟩ := h1 q
    have cy : (nI y).toNatClampNeg = y := nI_clamp (by omega)
    have cg2 : (nI g2).toNatClampNeg = g2 := nI_clamp (by omega)
    rw [if_pos q, a2, cy, a3, cg2, a5, nI_clamp (n := qq) (by omega)]
    refine mbplaceOfVariable_53 (vp_in_nI hx (by decide)) (by rw [cx, a2]; exact vp_in_nI a1 (by decide)) (by rw [cx, a2, cy, a3]; exact vp_in_nI a4 (by decide)) ?_
    rw [cx, a2, cy, a3, cg2, a5]
    exact place_V hx a7 a8 17000 qq _ (by omega) a6 (fun G => ⟨rfl, rfl⟩)
  · rw [cv, h63, cx, h56, cg] at q
    rw [cv, h63, cx, h56]
    obtain ⟨b1, b2⟩ := h0 q
    rw [if_neg q]
    refine mbplaceOfVariable_33 (vp_in_nI (by omega) (by decide)) (by rw [cg]; exact b1) (by rw [cg]; exact b2) (fun G _ => ?_)
    rw [cg]
    exact ⟨rfl, rfl⟩
end
