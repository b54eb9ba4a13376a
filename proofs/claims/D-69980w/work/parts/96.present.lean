/-! present, child, output of the reference -/
set_option maxRecDepth 100000
/-- is the clock c there, seen from the instance x -/
def md_pr (σ : MS) : Nat → Nat → Int32 → Bool
  | 0, _, _ => false
  | f + 1, x, c => if c = -1 then (if σ.2 57 x < 0 then true else md_pr σ f (σ.2 57 x).toNatClampNeg (σ.2 43 (σ.2 58 x).toNatClampNeg))
    else !decide (σ.2 78 (σ.2 59 x + c / 2).toNatClampNeg = 0) && decide (σ.2 74 (σ.2 59 x + c / 2).toNatClampNeg = c &&& 1)
/-- the chain outward is shorter than the number, and ends at a variable that there is -/
def md_po (σ : MS) (n : Nat) : Nat → Nat → Int32 → Prop
  | 0, _, _ => False
  | f + 1, x, c => if c = -1 then (σ.2 57 x < 0 ∨ md_po σ n f (σ.2 57 x).toNatClampNeg (σ.2 43 (σ.2 58 x).toNatClampNeg)) else vp_in (σ.2 59 x + c / 2) 6100
theorem nw_b {x : Int32} (h : x = 0 ∨ x = 1) : narrow .boolean (.int x) = .int x := by
  rcases h with rfl | rfl <;> rfl
section
variable {z : MZ} {σ : MS}
theorem X6_present_C {n : Nat} (hn : n ≤ 3200) (hI : md_in σ n) : ∀ f d x c, md_po σ n f x c → x < n → f ≤ d + 1 → ml_C z mX6_present d 0 [vR (some z.2.1), vI (nI x), vI c] σ (fun u σ' _ => u = some (vI (if md_pr σ f x c = true then 1 else 0)) ∧ σ' = σ) (fun _ _ _ => False) := by
  intro f
  induction f with
  | zero => intro d x c h; exact h.elim
  | succ f ih =>
    intro d x c h hx hd
    have cx : (nI x).toNatClampNeg = x := nI_clamp (by omega)
    have vx : vp_in (nI x) 3200 := vp_in_nI (by omega) (by decide)
    refine ml_C_of (by decide) rfl (Nat.le_of_ble_eq_true rfl) ?_
    rw [md_po] at h
    rw [md_pr]
    refine mbpresent_0 (fun q => ?_) (fun q => ?_)
    · rw [if_neg q] at h ⊢
      refine mbpresent_44 vx (by decide) (by rw [cx]; exact h) (fun q2 => ?_) (fun q2 => ?_)
      · rw [cx] at q2
        refine mbpresent_80 (mbpresent_81 (nw_b (Or.inl rfl)) (fun G _ => ⟨?_, rfl⟩))
        rw [decide_eq_true q2]
        rfl
      · rw [cx] at q2 ⊢
        refine mbpresent_64 h (fun q3 => ?_) (fun q3 => ?_)
        · refine mbpresent_80 (mbpresent_81 (nw_b (Or.inl rfl)) (fun G _ => ⟨?_, rfl⟩))
          rw [decide_eq_false q2, decide_eq_false q3]
          rfl
        · refine mbpresent_76 (mbpresent_81 (nw_b (Or.inr rfl)) (fun G _ => ⟨?_, rfl⟩))
          rw [decide_eq_false q2, decide_eq_true q3]
          rfl
    · rw [if_pos q] at h ⊢
      refine mbpresent_5 vx (fun q2 => ?_) (fun q2 => ?_)
      · rw [cx] at q2
        rw [if_pos q2]
        exact mbpresent_38 (mbpresent_43 (nw_b (Or.inr rfl)) (fun G _ => ⟨rfl, rfl⟩))
      · rw [cx] at q2
        rw [if_neg q2]
        have h := h.resolve_left q2
        obtain ⟨y, e, h1, h2, h3, h4⟩ := (hI x hx).resolve_left q2
        rw [h3, nI_clamp (n := y) (by omega)] at h ⊢
        have hf : 1 ≤ f := by
          cases f with
          | zero => exact h.elim
          | succ f => omega
        have hc := ih (f - 1) y _ h (by omega) (by omega)
        refine mbpresent_14 vx (by rw [cx, h4]; exact vp_in_nI h2 (by decide)) (by rw [cx, h3]; exact hc) (by show f - 1 + 1 ≤ d; omega) (Nat.le_refl 0) (ml_krv fun σ' g => ?_) ml_no
        subst g
        refine mbpresent_35 (fun q3 => ?_) (fun q3 => ?_)
        · refine mbpresent_42 (mbpresent_43 (nw_b (Or.inl rfl)) (fun G _ => ⟨?_, rfl⟩))
          rw [if_neg (fun u => by rw [if_pos u] at q3; exact absurd q3 (by decide))]
        · refine mbpresent_38 (mbpresent_43 (nw_b (Or.inr rfl)) (fun G _ => ⟨?_, rfl⟩))
          rw [if_pos (Decidable.byContradiction fun u => q3 (by rw [if_neg u]))]
theorem X6_child_C {d x e s t : Nat} (hx : x < 3200) (he : e < 66000) (h1 : σ.2 61 x = nI s) (h2 : σ.2 37 e = nI t) (hs : s + t < 3200) : ml_C z mX6_child d 0 [vR (some z.2.1), vI (nI x), vI (nI e)] σ (fun u σ' _ => u = some (vI (σ.2 62 (s + t))) ∧ σ' = σ) (fun _ _ _ => False) := by
  refine ml_C_of (by decide) rfl (Nat.le_of_ble_eq_true rfl) ?_
  have ea : σ.2 61 (nI x).toNatClampNeg + σ.2 37 (nI e).toNatClampNeg = nI (s + t) := by rw [nI_clamp (n := x) (by omega), nI_clamp (n := e) (by omega), h1, h2, nI_add]
  refine mbchild_0 (vp_in_nI hx (by decide)) (vp_in_nI he (by decide)) (by rw [ea]; exact vp_in_nI hs (by decide)) (fun G _ => ⟨?_, rfl⟩)
  rw [ea, nI_clamp (by omega)]
theorem X6_output_C {d x e s t y g : Nat} {i : Int32} (hx : x < 3200) (he : e < 66000) (h1 : σ.2 61 x = nI s) (h2 : σ.2 37 e = nI t) (hs : s + t < 3200) (h3 : σ.2 62 (s + t) = nI y) (hy : y < 3200) (h4 : σ.2 33 e = nI g) (hg : g < 60) (hd : 1 ≤ d) : ml_C z mX6_output d 0 [vR (some z.2.1), vI (nI x), vI (nI e), vI i] σ (fun u σ' _ => u = some (vI (σ.2 59 y + σ.2 13 g + i)) ∧ σ' = σ) (fun _ _ _ => False) := by
  refine ml_C_of (by decide) rfl (Nat.le_of_ble_eq_true rfl) ?_
  have ce : (nI e).toNatClampNeg = e := nI_clamp (by omega)
  refine mboutput_0 (X6_child_C (d := 0) hx he h1 h2 hs) hd (Nat.le_refl 0) (ml_krv fun σ' q => ?_) ml_no
  subst q
  rw [h3]
  refine mboutput_10 (vp_in_nI hy (by decide)) (vp_in_nI he (by decide)) (by rw [ce, h4]; exact vp_in_nI hg (by decide)) (fun G _ => ⟨?_, rfl⟩)
  rw [ce, h4, nI_clamp (n := y) (by omega), nI_clamp (n := g) (by omega)]
end
