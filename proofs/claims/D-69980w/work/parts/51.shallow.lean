/-! shallow of the reference -/
set_option maxRecDepth 100000
/-- the clocks of the variables from a on, below b, go down -/
def md_ck (σ : MS) (a b : Nat) : Prop := ∀ v, a ≤ v → v < b → σ.2 22 v = -1 ∨ ∃ k, k < 2 ^ 30 ∧ σ.2 22 v = nI k ∧ a + k / 2 < v
/-- how deep a variable's clock is -/
def md_dep (σ : MS) (a : Nat) : Nat → Nat → Nat
  | 0, _ => 0
  | f + 1, v => if σ.2 22 v = -1 then 0 else md_dep σ a f (a + (σ.2 22 v).toNatClampNeg / 2) + 1
theorem md_dep_le {σ : MS} {a : Nat} : ∀ f v, md_dep σ a f v ≤ f := by
  intro f
  induction f with
  | zero => intro v; exact Nat.le_refl 0
  | succ f ih =>
    intro v
    rw [md_dep]
    split
    · exact Nat.zero_le _
    · exact Nat.succ_le_succ (ih _)
theorem md_sh_V {z : MZ} {jm : MJ} {n c a b N : Nat} {σ : MS} (hS : lx_S n c σ) (hb : b ≤ 6000) (hck : md_ck σ a b) (hN : σ.1 18 = nI N) (hN2 : N < 61) (ha : σ.2 12 N = nI a) (hd : 5 ≤ jm.1) (hb1 : 1 ≤ jm.2.1) : ∀ f v d E, v < f → a ≤ v → v < b → d + f ≤ 6001 → (d + md_dep σ a f v < 8 → ∀ G, jm.2.2.1 none σ G) → (¬ d + md_dep σ a f v < 8 → jm.2.2.2 3 (nI c) σ) → ml_V z mX6_shallow jm 4 [(0, vR (some z.2.1)), (2, vI (nI d)), (3, vI (nI v))] [] σ E jm.2.1 := by
  intro f
  induction f with
  | zero => intro v d E h; omega
  | succ f ih =>
    intro v d E h1 h2 h3 h4 h5 h6
    have hcl : (nI v).toNatClampNeg = v := nI_clamp (by omega)
    have hcN : (nI N).toNatClampNeg = N := nI_clamp (by omega)
    refine mbshallow_4 (vp_in_nI (by omega) (by decide)) (fun q => ?_) (fun q => ?_)
    · rw [hcl] at q
      rw [md_dep, if_pos q] at h5 h6
      refine mbshallow_39 (fun q8 => mbshallow_58 (fun G _ => ?_)) (fun q8 => ?_)
      · have q9 : nI d < nI 8 := q8
        exact h5 ((nI_ltI (by omega) (by omega)).1 q9) G
      · have q9 : ¬ nI d < nI 8 := q8
        have q10 : ¬ d < 8 := fun u => q9 (nI_lt u (by omega))
        refine mbshallow_45 hb1 (fun q => ?_)
        refine mbshallow_48 rfl (X23_init_C (Nat.le_refl 4)) (fun G g => g) hd (Nat.zero_le _) ?_
        refine mbshallow_57 rfl (fun G g => g.1) (fun G g => ?_)
        rw [g.2.1, g.2.2, hS.2.2.2.1]
        exact h6 q10
    · rw [hcl] at q
      rw [md_dep, if_neg q] at h5 h6
      obtain ⟨k, hk, e, hlt⟩ := (hck v h2 h3).resolve_left q
      refine mbshallow_14 (by rw [hN]; exact vp_in_nI hN2 (by decide)) (vp_in_nI (by omega) (by decide)) (by decide) ?_
      have e1 : σ.2 12 (σ.1 18).toNatClampNeg + σ.2 22 (nI v).toNatClampNeg / 2 = nI (a + k / 2) := by
        rw [hN, hcN, ha, hcl, e]
        have e2 : nI k / 2 = nI (k / 2) := pk_div (d := 2) (by omega) (by decide) (by decide)
        rw [e2, nI_add]
      rw [e1, nI_1]
      rw [e, nI_clamp (by omega)] at h5 h6
      exact ih (a + k / 2) (d + 1) _ (by omega) (by omega) (by omega) (by omega) (fun u => h5 (by omega)) (fun u => h6 (by omega))
