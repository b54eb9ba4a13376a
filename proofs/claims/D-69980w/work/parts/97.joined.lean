/-! joined of the reference -/
set_option maxRecDepth 100000
def md_jn (k a b : Int32) : Int32 :=
  if k = 7 then (if a = 0 ∨ b = 1 then 1 else 0)
  else if k = 8 then (a ||| b)
  else if k = 9 then (a ^^^ b)
  else if k = 10 then (a &&& b)
  else if k = 11 then (if a = b then 1 else 0)
  else if k = 12 then (if a = b then 0 else 1)
  else if k = 13 then (if b ≤ a then 0 else 1)
  else if k = 14 then (if b < a then 0 else 1)
  else if k = 15 then (if a ≤ b then 0 else 1)
  else if k = 16 then (if a < b then 0 else 1)
  else if k = 17 then (a + b)
  else if k = 18 then (a - b)
  else if k = 19 then (a * b)
  else if k = 20 then (if b = 0 then 0 else a / b)
  else if b = 0 then 0 else a - a / b * b
section
variable {z : MZ} {σ : MS}
theorem X6_joined_C {d : Nat} {k a b : Int32} (hd : 1 ≤ d) : ml_C z mX6_joined d 0 [vI k, vI a, vI b] σ (fun u σ' _ => u = some (vI (md_jn k a b)) ∧ σ' = σ) (fun _ _ _ => False) := by
  refine ml_C_of (by decide) rfl (Nat.le_of_ble_eq_true rfl) ?_
  generalize hv : md_jn k a b = v
  unfold md_jn at hv
  refine mbjoined_0 (fun c7 => ?_) (fun c8 => ?_) (fun c9 => ?_) (fun c10 => ?_) (fun c11 => ?_) (fun c12 => ?_) (fun c13 => ?_) (fun c14 => ?_) (fun c15 => ?_) (fun c16 => ?_) (fun c17 => ?_) (fun c18 => ?_) (fun c19 => ?_) (fun c20 => ?_) (fun c7 c8 c9 c10 c11 c12 c13 c14 c15 c16 c17 c18 c19 c20 => ?_)
  · subst c7
    replace hv : (if a = 0 ∨ b = 1 then 1 else 0) = v := hv
    have yes : ∀ E, (a = 0 ∨ b = 1) → ml_V z mX6_joined (d, 0, (fun u σ' _ => u = some (vI v) ∧ σ' = σ), fun _ _ _ => False) 81 [] [] σ E 0 := fun E q => by
      refine mbjoined_81 (mbjoined_86 (X6_truth_C (d := 0)) hd (Nat.le_refl 0) (ml_krv fun σ' h => ?_) ml_no)
      subst h
      exact mbjoined_89 (fun G _ => ⟨by rw [← hv, if_pos q]; rfl, rfl⟩)
    refine mbjoined_72 (fun q => yes _ (Or.inl q)) (fun q => mbjoined_76 (fun q2 => ?_) (fun q2 => yes _ (Or.inr q2)))
    refine mbjoined_85 (mbjoined_86 (X6_truth_C (d := 0)) hd (Nat.le_refl 0) (ml_krv fun σ' h => ?_) ml_no)
    subst h
    exact mbjoined_89 (fun G _ => ⟨by rw [← hv, if_neg (show ¬ (a = 0 ∨ b = 1) from fun u => u.elim q q2)]; rfl, rfl⟩)
  · subst c8
    replace hv : (a ||| b) = v := hv
    exact mbjoined_90 (fun G _ => ⟨by rw [← hv], rfl⟩)
  · subst c9
    replace hv : (a ^^^ b) = v := hv
    exact mbjoined_94 (fun G _ => ⟨by rw [← hv], rfl⟩)
  · subst c10
    replace hv : (a &&& b) = v := hv
    exact mbjoined_98 (fun G _ => ⟨by rw [← hv], rfl⟩)
  · subst c11
    replace hv : (if a = b then 1 else 0) = v := hv
    refine mbjoined_102 (fun q => mbjoined_111 ?_) (fun q => mbjoined_107 ?_)
    · refine mbjoined_112 (X6_truth_C (d := 0)) hd (Nat.le_refl 0) (ml_krv fun σ' h => ?_) ml_no
      subst h
      exact mbjoined_115 (fun G _ => ⟨by rw [← hv, if_neg q]; rfl, rfl⟩)
    · refine mbjoined_112 (X6_truth_C (d := 0)) hd (Nat.le_refl 0) (ml_krv fun σ' h => ?_) ml_no
      subst h
      exact mbjoined_115 (fun G _ => ⟨by rw [← hv, if_pos q]; rfl, rfl⟩)
  · subst c12
    replace hv : (if a = b then 0 else 1) = v := hv
    refine mbjoined_116 (fun q => mbjoined_125 ?_) (fun q => mbjoined_121 ?_)
    · refine mbjoined_126 (X6_truth_C (d := 0)) hd (Nat.le_refl 0) (ml_krv fun σ' h => ?_) ml_no
      subst h
      exact mbjoined_129 (fun G _ => ⟨by rw [← hv, if_pos q]; rfl, rfl⟩)
    · refine mbjoined_126 (X6_truth_C (d := 0)) hd (Nat.le_refl 0) (ml_krv fun σ' h => ?_) ml_no
      subst h
      exact mbjoined_129 (fun G _ => ⟨by rw [← hv, if_neg q]; rfl, rfl⟩)
  · subst c13
    replace hv : (if b ≤ a then 0 else 1) = v := hv
    refine mbjoined_130 (fun q => mbjoined_139 ?_) (fun q => mbjoined_135 ?_)
    · refine mbjoined_140 (X6_truth_C (d := 0)) hd (Nat.le_refl 0) (ml_krv fun σ' h => ?_) ml_no
      subst h
      exact mbjoined_143 (fun G _ => ⟨by rw [← hv, if_pos q]; rfl, rfl⟩)
    · refine mbjoined_140 (X6_truth_C (d := 0)) hd (Nat.le_refl 0) (ml_krv fun σ' h => ?_) ml_no
      subst h
      exact mbjoined_143 (fun G _ => ⟨by rw [← hv, if_neg q]; rfl, rfl⟩)
  · subst c14
    replace hv : (if b < a then 0 else 1) = v := hv
    refine mbjoined_144 (fun q => mbjoined_153 ?_) (fun q => mbjoined_149 ?_)
    · refine mbjoined_154 (X6_truth_C (d := 0)) hd (Nat.le_refl 0) (ml_krv fun σ' h => ?_) ml_no
      subst h
      exact mbjoined_157 (fun G _ => ⟨by rw [← hv, if_pos q]; rfl, rfl⟩)
    · refine mbjoined_154 (X6_truth_C (d := 0)) hd (Nat.le_refl 0) (ml_krv fun σ' h => ?_) ml_no
      subst h
      exact mbjoined_157 (fun G _ => ⟨by rw [← hv, if_neg q]; rfl, rfl⟩)
  · subst c15
    replace hv : (if a ≤ b then 0 else 1) = v := hv
    refine mbjoined_158 (fun q => mbjoined_167 ?_) (fun q => mbjoined_163 ?_)
    · refine mbjoined_168 (X6_truth_C (d := 0)) hd (Nat.le_refl 0) (ml_krv fun σ' h => ?_) ml_no
      subst h
      exact mbjoined_171 (fun G _ => ⟨by rw [← hv, if_pos q]; rfl, rfl⟩)
    · refine mbjoined_168 (X6_truth_C (d := 0)) hd (Nat.le_refl 0) (ml_krv fun σ' h => ?_) ml_no
      subst h
      exact mbjoined_171 (fun G _ => ⟨by rw [← hv, if_neg q]; rfl, rfl⟩)
  · subst c16
    replace hv : (if a < b then 0 else 1) = v := hv
    refine mbjoined_172 (fun q => mbjoined_181 ?_) (fun q => mbjoined_177 ?_)
    · refine mbjoined_182 (X6_truth_C (d := 0)) hd (Nat.le_refl 0) (ml_krv fun σ' h => ?_) ml_no
      subst h
      exact mbjoined_185 (fun G _ => ⟨by rw [← hv, if_pos q]; rfl, rfl⟩)
    · refine mbjoined_182 (X6_truth_C (d := 0)) hd (Nat.le_refl 0) (ml_krv fun σ' h => ?_) ml_no
      subst h
      exact mbjoined_185 (fun G _ => ⟨by rw [← hv, if_neg q]; rfl, rfl⟩)
  · subst c17
    replace hv : (a + b) = v := hv
    exact mbjoined_186 (fun G _ => ⟨by rw [← hv], rfl⟩)
  · subst c18
    replace hv : (a - b) = v := hv
    exact mbjoined_190 (fun G _ => ⟨by rw [← hv], rfl⟩)
  · subst c19
    replace hv : (a * b) = v := hv
    exact mbjoined_194 (fun G _ => ⟨by rw [← hv], rfl⟩)
  · subst c20
    replace hv : (if b = 0 then 0 else a / b) = v := hv
    exact mbjoined_198 (fun q => mbjoined_206 q (mbjoined_209 (fun G _ => ⟨by rw [← hv, if_neg q], rfl⟩))) (fun q => mbjoined_202 (mbjoined_209 (fun G _ => ⟨by rw [← hv, if_pos q], rfl⟩)))
  · rw [if_neg c7, if_neg c8, if_neg c9, if_neg c10, if_neg c11, if_neg c12, if_neg c13, if_neg c14, if_neg c15, if_neg c16, if_neg c17, if_neg c18, if_neg c19, if_neg c20] at hv
    exact mbjoined_210 (fun q => mbjoined_218 q (mbjoined_221 (fun G _ => ⟨by rw [← hv, if_neg q], rfl⟩))) (fun q => mbjoined_214 (mbjoined_221 (fun G _ => ⟨by rw [← hv, if_pos q], rfl⟩)))
end
