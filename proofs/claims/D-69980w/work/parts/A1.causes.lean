/-! causes(v) of the reference -/
set_option maxRecDepth 100000
def cs_0 (S : MS) (v : Nat) : MS := ml_sa S 65 v (S.1 67)
def cs_1 (S : MS) (c : Int32) : MS := if c < 0 then S else md_cause S c
/-- the causes of what the expression b of the instance y computes, its i-th value -/
def cs_2 (S : MS) (y b : Nat) : MS := pcs y b (b + 1 - jg_n (S.2 45 b)) (jg_n (S.2 45 b)) S
def cs_3 (S : MS) (y b : Nat) (i : Int32) : MS := if S.2 32 b = 3 then md_cause S (S.2 59 (S.2 62 (S.2 61 y + S.2 37 b).toNatClampNeg).toNatClampNeg + S.2 13 (S.2 33 b).toNatClampNeg + i) else S
def cs_4 (S : MS) (y b : Nat) (i : Int32) : MS := cs_3 (cs_2 S y b) y b i
/-- what the expression b of y asks -/
def cs_H (S : MS) (y b : Nat) : Prop := y < 3200 ∧ b < 66000 ∧ (∃ lo, S.2 45 b = nI lo ∧ lo ≤ b ∧ ∀ e, lo ≤ e → e ≤ b → pcs_H S y b e) ∧ (S.2 32 b = 3 → ∃ s t w g, S.2 61 y = nI s ∧ S.2 37 b = nI t ∧ s + t < 3200 ∧ S.2 62 (s + t) = nI w ∧ w < 3200 ∧ S.2 33 b = nI g ∧ g < 60)
theorem cs_H.cs {S S' : MS} {y b : Nat} (h : cs_H S y b) (hs : cs_same S S') : cs_H S' y b := by
  obtain ⟨h1, h2, ⟨lo, h3, h4, h5⟩, h6⟩ := h
  refine ⟨h1, h2, ⟨lo, by rw [hs.2.1 45 (by omega)]; exact h3, h4, fun e a c => (h5 e a c).cs hs⟩, ?_⟩
  rw [hs.2.1 32 (by omega), hs.2.1 61 (by omega), hs.2.1 37 (by omega), hs.2.1 62 (by omega), hs.2.1 33 (by omega)]
  exact h6
section
variable {z : MZ} {σ : MS}
theorem cs_2_C {d y b : Nat} (h : cs_H σ y b) (h67 : ¬ σ.1 67 < 0) (hd : 2 ≤ d) : ml_C z mX6_partCauses d 0 [vR (some z.2.1), vI (nI y), vI (nI b)] σ (fun u σ' _ => u = none ∧ σ' = cs_2 σ y b ∧ cs_same σ σ') (fun _ _ _ => False) := by
  obtain ⟨h1, h2, ⟨lo, h3, h4, h5⟩, h6⟩ := h
  have e : cs_2 σ y b = pcs y b (b + 1 - lo) lo σ := by rw [cs_2, h3, jg_n, nI_clamp (by omega)]
  rw [e]
  exact X6_partCauses_C h1 h2 h3 h4 h67 h5 hd
theorem cs_3_C {d y b : Nat} {i : Int32} (h : cs_H σ y b) (h3 : σ.2 32 b = 3) (hd : 1 ≤ d) : ml_C z mX6_output d 0 [vR (some z.2.1), vI (nI y), vI (nI b), vI i] σ (fun u σ' _ => u = some (vI (σ.2 59 (σ.2 62 (σ.2 61 y + σ.2 37 b).toNatClampNeg).toNatClampNeg + σ.2 13 (σ.2 33 b).toNatClampNeg + i)) ∧ σ' = σ) (fun _ _ _ => False) := by
  obtain ⟨h1, h2, -, h6⟩ := h
  obtain ⟨s, t, w, g, b1, b2, b3, b4, b5, b6, b7⟩ := h6 h3
  rw [b1, b2, nI_add, nI_clamp (n := s + t) (by omega), b4, nI_clamp (n := w) (by omega), b6, nI_clamp (n := g) (by omega)]
  exact X6_output_C h1 h2 b1 b2 b3 b4 b5 b6 b7 hd
end
