/-! mainVariables, count of the reference -/
set_option maxRecDepth 100000
/-- the main node's number, or less than 0 -/
def md_main (σ : MS) : Prop := σ.1 49 < 0 ∨ ∃ m, m < 60 ∧ σ.1 49 = nI m
def md_mv (σ : MS) : Int32 := if σ.1 49 < 0 then 0 else σ.2 12 ((σ.1 49).toNatClampNeg + 1) - σ.2 12 (σ.1 49).toNatClampNeg
def md_if (σ : MS) (v : Int32) : Int32 := if σ.1 49 < 0 then 0 else v
def md_cnt (σ : MS) (x : Int32) : Int32 :=
  if x = 0 then md_mv σ else if x = 1 then md_if σ (σ.2 13 (σ.1 49).toNatClampNeg) else if x = 2 then md_if σ (σ.2 14 (σ.1 49).toNatClampNeg)
  else if x = 3 then md_if σ (σ.1 51) else if x = 4 then md_if σ (σ.2 48 (σ.1 49).toNatClampNeg) else if x = 5 then σ.1 72
  else if x = 6 then md_if σ (σ.1 53) else if x = 7 then σ.1 1 else if x = 8 then md_if σ (σ.1 18) else -1
theorem X6_mainVariables_C {z : MZ} {d : Nat} {σ : MS} (h : md_main σ) : ml_C z mX6_mainVariables d 0 [vR (some z.2.1)] σ (fun v σ' _ => v = some (vI (md_mv σ)) ∧ σ' = σ) (fun _ _ _ => False) := by
  refine ml_C_of (by decide) rfl (Nat.le_of_ble_eq_true rfl) ?_
  refine mbmainVariables_0 (fun q => ?_) (fun q => ?_)
  · have q1 := Int32.not_lt.2 q
    obtain ⟨m, hm, e⟩ := h.resolve_left q1
    have e1 : σ.1 49 + 1 = nI (m + 1) := by rw [e, nI_1]
    have hv : md_mv σ = σ.2 12 (σ.1 49 + 1).toNatClampNeg - σ.2 12 (σ.1 49).toNatClampNeg := by
      rw [md_mv, if_neg q1, e1, e, nI_clamp (by omega), nI_clamp (by omega)]
    refine mbmainVariables_11 (by rw [e1]; exact vp_in_nI (by omega) (by decide)) (by rw [e]; exact vp_in_nI (by omega) (by decide)) ?_
    rw [← hv]
    exact mbmainVariables_32 (fun _ _ => ⟨rfl, rfl⟩)
  · exact mbmainVariables_7 (mbmainVariables_32 (fun _ _ => ⟨by rw [md_mv, if_pos (Int32.not_le.1 q)], rfl⟩))
theorem X6_count_C {z : MZ} {d : Nat} {x : Int32} {σ : MS} (h : md_main σ) (hd : 1 ≤ d) : ml_C z mX6_count d 0 [vR (some z.2.1), vI x] σ (fun v σ' _ => v = some (vI (md_cnt σ x)) ∧ σ' = ml_sf σ 2 0) (fun _ _ _ => False) := by
  refine ml_C_of (by decide) rfl (Nat.le_of_ble_eq_true rfl) ?_
  have hin : ¬ σ.1 49 < 0 → vp_in (σ.1 49) 60 := fun q => by
    obtain ⟨m, hm, e⟩ := h.resolve_left q
    rw [e]
    exact vp_in_nI hm (by decide)
  refine mbcount_0 ?_ ?_ ?_ ?_ ?_ ?_ ?_ ?_ ?_ ?_
  · intro hx
    refine mbcount_56 (X6_mainVariables_C (d := 0) (σ := ml_sf σ 2 0) h) hd (Nat.zero_le _) (ml_pure ?_) ml_no
    exact mbcount_60 (fun _ _ => ⟨by subst hx; rfl, rfl⟩)
  · intro hx
    subst hx
    refine mbcount_61 (fun q => ?_) (fun q => ?_)
    · have q1 : ¬ σ.1 49 < 0 := Int32.not_lt.2 q
      exact mbcount_72 (hin q1) (mbcount_81 (fun _ _ => ⟨by show some (vI _) = some (vI (md_cnt σ 1)); rw [md_cnt]; rw [if_neg (by decide)]; rw [if_pos rfl]; rw [md_if, if_neg q1]; rfl, rfl⟩))
    · have q1 : σ.1 49 < 0 := Int32.not_le.1 q
      exact mbcount_68 (mbcount_81 (fun _ _ => ⟨by show some (vI _) = some (vI (md_cnt σ 1)); rw [md_cnt]; rw [if_neg (by decide)]; rw [if_pos rfl]; rw [md_if, if_pos q1], rfl⟩))
  · intro hx
    subst hx
    refine mbcount_82 (fun q => ?_) (fun q => ?_)
    · have q1 : ¬ σ.1 49 < 0 := Int32.not_lt.2 q
      exact mbcount_93 (hin q1) (mbcount_102 (fun _ _ => ⟨by show some (vI _) = some (vI (md_cnt σ 2)); rw [md_cnt]; rw [if_neg (by decide)]; rw [if_neg (by decide)]; rw [if_pos rfl]; rw [md_if, if_neg q1]; rfl, rfl⟩))
    · have q1 : σ.1 49 < 0 := Int32.not_le.1 q
      exact mbcount_89 (mbcount_102 (fun _ _ => ⟨by show some (vI _) = some (vI (md_cnt σ 2)); rw [md_cnt]; rw [if_neg (by decide)]; rw [if_neg (by decide)]; rw [if_pos rfl]; rw [md_if, if_pos q1], rfl⟩))
  · intro hx
    subst hx
    refine mbcount_103 (fun q => ?_) (fun q => ?_)
    · have q1 : ¬ σ.1 49 < 0 := Int32.not_lt.2 q
      exact mbcount_114 (mbcount_118 (fun _ _ => ⟨by show some (vI _) = some (vI (md_cnt σ 3)); rw [md_cnt]; rw [if_neg (by decide)]; rw [if_neg (by decide)]; rw [if_neg (by decide)]; rw [if_pos rfl]; rw [md_if, if_neg q1]; rfl, rfl⟩))
    · have q1 : σ.1 49 < 0 := Int32.not_le.1 q
      exact mbcount_110 (mbcount_118 (fun _ _ => ⟨by show some (vI _) = some (vI (md_cnt σ 3)); rw [md_cnt]; rw [if_neg (by decide)]; rw [if_neg (by decide)]; rw [if_neg (by decide)]; rw [if_pos rfl]; rw [md_if, if_pos q1], rfl⟩))
  · intro hx
    subst hx
    refine mbcount_119 (fun q => ?_) (fun q => ?_)
    · have q1 : ¬ σ.1 49 < 0 := Int32.not_lt.2 q
      exact mbcount_130 (hin q1) (mbcount_139 (fun _ _ => ⟨by show some (vI _) = some (vI (md_cnt σ 4)); rw [md_cnt]; rw [if_neg (by decide)]; rw [if_neg (by decide)]; rw [if_neg (by decide)]; rw [if_neg (by decide)]; rw [if_pos rfl]; rw [md_if, if_neg q1]; rfl, rfl⟩))
    · have q1 : σ.1 49 < 0 := Int32.not_le.1 q
      exact mbcount_126 (mbcount_139 (fun _ _ => ⟨by show some (vI _) = some (vI (md_cnt σ 4)); rw [md_cnt]; rw [if_neg (by decide)]; rw [if_neg (by decide)]; rw [if_neg (by decide)]; rw [if_neg (by decide)]; rw [if_pos rfl]; rw [md_if, if_pos q1], rfl⟩))
  · intro hx
    subst hx
    exact mbcount_140 (fun _ _ => ⟨by show some (vI _) = some (vI (md_cnt σ 5)); rw [md_cnt]; rw [if_neg (by decide)]; rw [if_neg (by decide)]; rw [if_neg (by decide)]; rw [if_neg (by decide)]; rw [if_neg (by decide)]; rw [if_pos rfl]; rfl, rfl⟩)
  · intro hx
    subst hx
    refine mbcount_145 (fun q => ?_) (fun q => ?_)
    · have q1 : ¬ σ.1 49 < 0 := Int32.not_lt.2 q
      exact mbcount_156 (mbcount_160 (fun _ _ => ⟨by show some (vI _) = some (vI (md_cnt σ 6)); rw [md_cnt]; rw [if_neg (by decide)]; rw [if_neg (by decide)]; rw [if_neg (by decide)]; rw [if_neg (by decide)]; rw [if_neg (by decide)]; rw [if_neg (by decide)]; rw [if_pos rfl]; rw [md_if, if_neg q1]; rfl, rfl⟩))
    · have q1 : σ.1 49 < 0 := Int32.not_le.1 q
      exact mbcount_152 (mbcount_160 (fun _ _ => ⟨by show some (vI _) = some (vI (md_cnt σ 6)); rw [md_cnt]; rw [if_neg (by decide)]; rw [if_neg (by decide)]; rw [if_neg (by decide)]; rw [if_neg (by decide)]; rw [if_neg (by decide)]; rw [if_neg (by decide)]; rw [if_pos rfl]; rw [md_if, if_pos q1], rfl⟩))
  · intro hx
    subst hx
    exact mbcount_161 (fun _ _ => ⟨by show some (vI _) = some (vI (md_cnt σ 7)); rw [md_cnt]; rw [if_neg (by decide)]; rw [if_neg (by decide)]; rw [if_neg (by decide)]; rw [if_neg (by decide)]; rw [if_neg (by decide)]; rw [if_neg (by decide)]; rw [if_neg (by decide)]; rw [if_pos rfl]; rfl, rfl⟩)
  · intro hx
    subst hx
    refine mbcount_166 (fun q => ?_) (fun q => ?_)
    · have q1 : ¬ σ.1 49 < 0 := Int32.not_lt.2 q
      exact mbcount_177 (mbcount_181 (fun _ _ => ⟨by show some (vI _) = some (vI (md_cnt σ 8)); rw [md_cnt]; rw [if_neg (by decide)]; rw [if_neg (by decide)]; rw [if_neg (by decide)]; rw [if_neg (by decide)]; rw [if_neg (by decide)]; rw [if_neg (by decide)]; rw [if_neg (by decide)]; rw [if_neg (by decide)]; rw [if_pos rfl]; rw [md_if, if_neg q1]; rfl, rfl⟩))
    · have q1 : σ.1 49 < 0 := Int32.not_le.1 q
      exact mbcount_173 (mbcount_181 (fun _ _ => ⟨by show some (vI _) = some (vI (md_cnt σ 8)); rw [md_cnt]; rw [if_neg (by decide)]; rw [if_neg (by decide)]; rw [if_neg (by decide)]; rw [if_neg (by decide)]; rw [if_neg (by decide)]; rw [if_neg (by decide)]; rw [if_neg (by decide)]; rw [if_neg (by decide)]; rw [if_pos rfl]; rw [md_if, if_pos q1], rfl⟩))
  · intro h0 h1 h2 h3 h4 h5 h6 h7 h8
    exact mbcount_182 (fun _ _ => ⟨by rw [md_cnt, if_neg h0, if_neg h1, if_neg h2, if_neg h3, if_neg h4, if_neg h5, if_neg h6, if_neg h7, if_neg h8], rfl⟩)
