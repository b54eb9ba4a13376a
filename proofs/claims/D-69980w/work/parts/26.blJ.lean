set_option maxRecDepth 100000
theorem flJ11_15 : hp_FL "java/lang/AbstractStringBuilder" 15 27 0 := ⟨by decide, by decide, by decide, "java/lang/AbstractStringBuilder", q560, Or.inl rfl⟩
theorem flJ11_22 : hp_FL "java/lang/AbstractStringBuilder" 22 27 1 := ⟨by decide, by decide, by decide, "java/lang/AbstractStringBuilder", q561, Or.inl rfl⟩
theorem flJ11_79 : hp_FL "java/lang/AbstractStringBuilder" 79 27 3 := ⟨by decide, by decide, by decide, "java/lang/AbstractStringBuilder", q563, Or.inl rfl⟩
theorem flJ13_9 : hp_FL "java/lang/String" 9 26 0 := ⟨by decide, by decide, by decide, "java/lang/String", q823, Or.inl rfl⟩
theorem flJ13_15 : hp_FL "java/lang/String" 15 26 1 := ⟨by decide, by decide, by decide, "java/lang/String", q824, Or.inl rfl⟩
theorem flJ13_19 : hp_FL "java/lang/String" 19 26 2 := ⟨by decide, by decide, by decide, "java/lang/String", q825, Or.inl rfl⟩
theorem flJ13_23 : hp_FL "java/lang/String" 23 26 3 := ⟨by decide, by decide, by decide, "java/lang/String", q826, Or.inl rfl⟩
theorem flJ13_1048 : hp_FL "java/lang/String" 1048 27 2 := ⟨by decide, by decide, by decide, "java/lang/AbstractStringBuilder", q562, Or.inl rfl⟩
theorem flJ0_7 : ∀ c, 3 ≤ c → c ≤ 4 → hp_FL "java/lang/Throwable" 7 c 0 := by
  intro c h1 h2
  have h : c = 3 ∨ c = 4 := by omega
  rcases h with rfl | rfl <;> exact ⟨by decide, by decide, by decide, "java/lang/Throwable", q233, Or.inl rfl⟩
theorem flJ0_7_t : ∀ c, 3 ≤ c → c ≤ 4 → hp_isR (hp_ty c 0) = true ∧ (hp_T c 0).2.2.2 = false ∧ (hp_T c 0).1 = "java/lang/Throwable" ∧ hp_ty c 0 = .object "java/lang/Throwable" := by
  intro c h1 h2
  have h : c = 3 ∨ c = 4 := by omega
  rcases h with rfl | rfl <;> exact ⟨rfl, rfl, rfl, rfl⟩
theorem flJ0_17 : ∀ c, 3 ≤ c → c ≤ 4 → hp_FL "java/lang/Throwable" 17 c 1 := by
  intro c h1 h2
  have h : c = 3 ∨ c = 4 := by omega
  rcases h with rfl | rfl <;> exact ⟨by decide, by decide, by decide, "java/lang/Throwable", q234, Or.inl rfl⟩
theorem flJ0_17_t : ∀ c, 3 ≤ c → c ≤ 4 → hp_isR (hp_ty c 1) = true ∧ (hp_T c 1).2.2.2 = false ∧ (hp_T c 1).1 = "java/lang/Throwable" ∧ hp_ty c 1 = .array (.object "java/lang/StackTraceElement") := by
  intro c h1 h2
  have h : c = 3 ∨ c = 4 := by omega
  rcases h with rfl | rfl <;> exact ⟨rfl, rfl, rfl, rfl⟩
theorem flJ0_24 : ∀ c, 3 ≤ c → c ≤ 4 → hp_FL "java/lang/Throwable" 24 c 2 := by
  intro c h1 h2
  have h : c = 3 ∨ c = 4 := by omega
  rcases h with rfl | rfl <;> exact ⟨by decide, by decide, by decide, "java/lang/Throwable", q235, Or.inl rfl⟩
theorem flJ0_24_t : ∀ c, 3 ≤ c → c ≤ 4 → hp_isR (hp_ty c 2) = true ∧ (hp_T c 2).2.2.2 = false ∧ (hp_T c 2).1 = "java/lang/Throwable" ∧ hp_ty c 2 = .object "java/util/List" := by
  intro c h1 h2
  have h : c = 3 ∨ c = 4 := by omega
  rcases h with rfl | rfl <;> exact ⟨rfl, rfl, rfl, rfl⟩
theorem flJ0_31 : ∀ c, 3 ≤ c → c ≤ 4 → hp_FL "java/lang/Throwable" 31 c 3 := by
  intro c h1 h2
  have h : c = 3 ∨ c = 4 := by omega
  rcases h with rfl | rfl <;> exact ⟨by decide, by decide, by decide, "java/lang/Throwable", q232, Or.inl rfl⟩
theorem flJ0_31_t : ∀ c, 3 ≤ c → c ≤ 4 → hp_isR (hp_ty c 3) = true ∧ (hp_T c 3).2.2.2 = false ∧ (hp_T c 3).1 = "java/lang/Throwable" ∧ hp_ty c 3 = .object "java/lang/String" := by
  intro c h1 h2
  have h : c = 3 ∨ c = 4 := by omega
  rcases h with rfl | rfl <;> exact ⟨rfl, rfl, rfl, rfl⟩
theorem flJ4_7 : hp_FL "java/util/AbstractList" 7 22 2 := ⟨by decide, by decide, by decide, "java/util/AbstractList", q271, Or.inl rfl⟩
theorem flJ5_9 : hp_FL "java/util/ArrayList" 9 22 0 := ⟨by decide, by decide, by decide, "java/util/ArrayList", q269, Or.inl rfl⟩
theorem flJ5_48 : hp_FL "java/util/ArrayList" 48 22 1 := ⟨by decide, by decide, by decide, "java/util/ArrayList", q270, Or.inl rfl⟩
theorem flJ5_63 : hp_FL "java/util/ArrayList" 63 22 2 := ⟨by decide, by decide, by decide, "java/util/ArrayList", q272, Or.inr q273⟩
theorem flJ7_81 : hp_FL "java/util/HashMap" 81 23 7 := ⟨by decide, by decide, by decide, "java/util/HashMap", q295, Or.inl rfl⟩
theorem flJ7_88 : hp_FL "java/util/HashMap" 88 23 6 := ⟨by decide, by decide, by decide, "java/util/HashMap", q294, Or.inl rfl⟩
theorem flJ7_105 : hp_FL "java/util/HashMap" 105 23 2 := ⟨by decide, by decide, by decide, "java/util/HashMap", q291, Or.inl rfl⟩
theorem flJ7_156 : hp_FL "java/util/HashMap" 156 23 4 := ⟨by decide, by decide, by decide, "java/util/HashMap", q292, Or.inl rfl⟩
theorem flJ7_162 : ∀ c, 24 ≤ c → c ≤ 25 → hp_FL "java/util/HashMap" 162 c 2 := by
  intro c h1 h2
  have h : c = 24 ∨ c = 25 := by omega
  rcases h with rfl | rfl <;> exact ⟨by decide, by decide, by decide, "java/util/HashMap$Node", q1605, Or.inl rfl⟩
theorem flJ7_162_t : ∀ c, 24 ≤ c → c ≤ 25 → hp_isR (hp_ty c 2) = true ∧ (hp_T c 2).2.2.2 = false ∧ (hp_T c 2).1 = "java/util/HashMap$Node" ∧ hp_ty c 2 = .object "java/lang/Object" := by
  intro c h1 h2
  have h : c = 24 ∨ c = 25 := by omega
  rcases h with rfl | rfl <;> exact ⟨rfl, rfl, rfl, rfl⟩
theorem flJ7_168 : ∀ c, 24 ≤ c → c ≤ 25 → hp_FL "java/util/HashMap" 168 c 0 := by
  intro c h1 h2
  have h : c = 24 ∨ c = 25 := by omega
  rcases h with rfl | rfl <;> exact ⟨by decide, by decide, by decide, "java/util/HashMap$Node", q1599, Or.inl rfl⟩
theorem flJ7_168_t : ∀ c, 24 ≤ c → c ≤ 25 → hp_isI (hp_ty c 0) = true ∧ (hp_T c 0).2.2.2 = true ∧ (hp_T c 0).1 = "java/util/HashMap$Node" ∧ hp_ty c 0 = .int := by
  intro c h1 h2
  have h : c = 24 ∨ c = 25 := by omega
  rcases h with rfl | rfl <;> exact ⟨rfl, rfl, rfl, rfl⟩
theorem flJ7_170 : ∀ c, 24 ≤ c → c ≤ 25 → hp_FL "java/util/HashMap" 170 c 1 := by
  intro c h1 h2
  have h : c = 24 ∨ c = 25 := by omega
  rcases h with rfl | rfl <;> exact ⟨by decide, by decide, by decide, "java/util/HashMap$Node", q1603, Or.inl rfl⟩
theorem flJ7_170_t : ∀ c, 24 ≤ c → c ≤ 25 → hp_isR (hp_ty c 1) = true ∧ (hp_T c 1).2.2.2 = true ∧ (hp_T c 1).1 = "java/util/HashMap$Node" ∧ hp_ty c 1 = .object "java/lang/Object" := by
  intro c h1 h2
  have h : c = 24 ∨ c = 25 := by omega
  rcases h with rfl | rfl <;> exact ⟨rfl, rfl, rfl, rfl⟩
theorem flJ7_177 : ∀ c, 24 ≤ c → c ≤ 25 → hp_FL "java/util/HashMap" 177 c 3 := by
  intro c h1 h2
  have h : c = 24 ∨ c = 25 := by omega
  rcases h with rfl | rfl <;> exact ⟨by decide, by decide, by decide, "java/util/HashMap$Node", q1610, Or.inl rfl⟩
theorem flJ7_177_t : ∀ c, 24 ≤ c → c ≤ 25 → hp_isR (hp_ty c 3) = true ∧ (hp_T c 3).2.2.2 = false ∧ (hp_T c 3).1 = "java/util/HashMap$Node" ∧ hp_ty c 3 = .object "java/util/HashMap$Node" := by
  intro c h1 h2
  have h : c = 24 ∨ c = 25 := by omega
  rcases h with rfl | rfl <;> exact ⟨rfl, rfl, rfl, rfl⟩
theorem flJ7_202 : hp_FL "java/util/HashMap" 202 23 5 := ⟨by decide, by decide, by decide, "java/util/HashMap", q293, Or.inl rfl⟩
theorem flJ7_219 : hp_FL "java/util/HashMap" 219 25 7 := ⟨by decide, by decide, by decide, "java/util/HashMap$TreeNode", q1663, Or.inl rfl⟩
theorem flJ7_223 : hp_FL "java/util/HashMap" 223 25 3 := ⟨by decide, by decide, by decide, "java/util/HashMap$TreeNode", q1611, Or.inr q1608⟩
theorem flJ24_7 : ∀ c, 24 ≤ c → c ≤ 25 → hp_FL "java/util/HashMap$Node" 7 c 0 := by
  intro c h1 h2
  have h : c = 24 ∨ c = 25 := by omega
  rcases h with rfl | rfl <;> exact ⟨by decide, by decide, by decide, "java/util/HashMap$Node", q1596, Or.inl rfl⟩
theorem flJ24_7_t : ∀ c, 24 ≤ c → c ≤ 25 → hp_isI (hp_ty c 0) = true ∧ (hp_T c 0).2.2.2 = true ∧ (hp_T c 0).1 = "java/util/HashMap$Node" ∧ hp_ty c 0 = .int := by
  intro c h1 h2
  have h : c = 24 ∨ c = 25 := by omega
  rcases h with rfl | rfl <;> exact ⟨rfl, rfl, rfl, rfl⟩
theorem flJ24_13 : ∀ c, 24 ≤ c → c ≤ 25 → hp_FL "java/util/HashMap$Node" 13 c 1 := by
  intro c h1 h2
  have h : c = 24 ∨ c = 25 := by omega
  rcases h with rfl | rfl <;> exact ⟨by decide, by decide, by decide, "java/util/HashMap$Node", q1600, Or.inl rfl⟩
theorem flJ24_13_t : ∀ c, 24 ≤ c → c ≤ 25 → hp_isR (hp_ty c 1) = true ∧ (hp_T c 1).2.2.2 = true ∧ (hp_T c 1).1 = "java/util/HashMap$Node" ∧ hp_ty c 1 = .object "java/lang/Object" := by
  intro c h1 h2
  have h : c = 24 ∨ c = 25 := by omega
  rcases h with rfl | rfl <;> exact ⟨rfl, rfl, rfl, rfl⟩
theorem flJ24_17 : ∀ c, 24 ≤ c → c ≤ 25 → hp_FL "java/util/HashMap$Node" 17 c 2 := by
  intro c h1 h2
  have h : c = 24 ∨ c = 25 := by omega
  rcases h with rfl | rfl <;> exact ⟨by decide, by decide, by decide, "java/util/HashMap$Node", q1604, Or.inl rfl⟩
theorem flJ24_17_t : ∀ c, 24 ≤ c → c ≤ 25 → hp_isR (hp_ty c 2) = true ∧ (hp_T c 2).2.2.2 = false ∧ (hp_T c 2).1 = "java/util/HashMap$Node" ∧ hp_ty c 2 = .object "java/lang/Object" := by
  intro c h1 h2
  have h : c = 24 ∨ c = 25 := by omega
  rcases h with rfl | rfl <;> exact ⟨rfl, rfl, rfl, rfl⟩
theorem flJ24_20 : ∀ c, 24 ≤ c → c ≤ 25 → hp_FL "java/util/HashMap$Node" 20 c 3 := by
  intro c h1 h2
  have h : c = 24 ∨ c = 25 := by omega
  rcases h with rfl | rfl <;> exact ⟨by decide, by decide, by decide, "java/util/HashMap$Node", q1606, Or.inl rfl⟩
theorem flJ24_20_t : ∀ c, 24 ≤ c → c ≤ 25 → hp_isR (hp_ty c 3) = true ∧ (hp_T c 3).2.2.2 = false ∧ (hp_T c 3).1 = "java/util/HashMap$Node" ∧ hp_ty c 3 = .object "java/util/HashMap$Node" := by
  intro c h1 h2
  have h : c = 24 ∨ c = 25 := by omega
  rcases h with rfl | rfl <;> exact ⟨rfl, rfl, rfl, rfl⟩
theorem flJ26_9 : hp_FL "java/util/HashMap$TreeNode" 9 25 4 := ⟨by decide, by decide, by decide, "java/util/HashMap$TreeNode", q1659, Or.inl rfl⟩
theorem flJ26_15 : hp_FL "java/util/HashMap$TreeNode" 15 25 0 := ⟨by decide, by decide, by decide, "java/util/HashMap$TreeNode", q1597, Or.inr q1598⟩
theorem flJ26_19 : hp_FL "java/util/HashMap$TreeNode" 19 25 7 := ⟨by decide, by decide, by decide, "java/util/HashMap$TreeNode", q1662, Or.inl rfl⟩
theorem flJ26_22 : hp_FL "java/util/HashMap$TreeNode" 22 25 3 := ⟨by decide, by decide, by decide, "java/util/HashMap$TreeNode", q1607, Or.inr q1608⟩
theorem flJ26_39 : hp_FL "java/util/HashMap$TreeNode" 39 25 5 := ⟨by decide, by decide, by decide, "java/util/HashMap$TreeNode", q1660, Or.inl rfl⟩
theorem flJ26_42 : hp_FL "java/util/HashMap$TreeNode" 42 25 6 := ⟨by decide, by decide, by decide, "java/util/HashMap$TreeNode", q1661, Or.inl rfl⟩
theorem flJ26_45 : hp_FL "java/util/HashMap$TreeNode" 45 25 1 := ⟨by decide, by decide, by decide, "java/util/HashMap$TreeNode", q1601, Or.inr q1602⟩
theorem flJ26_93 : hp_FL "java/util/HashMap$TreeNode" 93 25 8 := ⟨by decide, by decide, by decide, "java/util/HashMap$TreeNode", q1664, Or.inl rfl⟩
theorem flJ26_112 : ∀ c, 24 ≤ c → c ≤ 25 → hp_FL "java/util/HashMap$TreeNode" 112 c 3 := by
  intro c h1 h2
  have h : c = 24 ∨ c = 25 := by omega
  rcases h with rfl | rfl <;> exact ⟨by decide, by decide, by decide, "java/util/HashMap$Node", q1609, Or.inl rfl⟩
theorem flJ26_112_t : ∀ c, 24 ≤ c → c ≤ 25 → hp_isR (hp_ty c 3) = true ∧ (hp_T c 3).2.2.2 = false ∧ (hp_T c 3).1 = "java/util/HashMap$Node" ∧ hp_ty c 3 = .object "java/util/HashMap$Node" := by
  intro c h1 h2
  have h : c = 24 ∨ c = 25 := by omega
  rcases h with rfl | rfl <;> exact ⟨rfl, rfl, rfl, rfl⟩
/-! java/lang/Throwable.<init>()V -/
theorem blJ0_init_0 {w : WD} {j : JB} {r : Nat} {G : GH} {a0 : Nat}
    (hdp : 1 ≤ j.1)
    (k : wk_V w mJ0_init j 4 [(0, vR (some a0))] [] G r)
    : wk_V w mJ0_init j 0 [(0, vR (some a0))] [] G r := by
  refine wk_aload_n 0 dJ0_init_0 rfl rfl ?_
  exact wk_objInit q199 q171 q172 (by decide) hdp dJ0_init_1 k
theorem blJ0_init_4 {w : WD} {j : JB} {r : Nat} {G : GH} {a0 : Nat}
    (hk1 : 3 ≤ hp_kd G a0 ∧ hp_kd G a0 ≤ 4)
    (hA2 : hp_A w a0)
    (k : wk_V w mJ0_init j 16 [(0, vR (some a0))] [] (hp_sR (hp_sR G a0 0 a0) a0 1 (hp_sv w "java/lang/Throwable" "UNASSIGNED_STACK")) r)
    : wk_V w mJ0_init j 4 [(0, vR (some a0))] [] G r := by
  refine wk_aload_n 0 dJ0_init_4 rfl rfl ?_
  refine wk_aload_n 0 dJ0_init_5 rfl rfl ?_
  refine wk_putR (hp_kd G a0) 0 (flJ0_7 _ hk1.1 hk1.2) (flJ0_7_t _ hk1.1 hk1.2).1 (Or.inl (flJ0_7_t _ hk1.1 hk1.2).2.1) rfl hA2 dJ0_init_6 ?_
  refine wk_aload_n 0 dJ0_init_9 rfl rfl ?_
  refine wk_getsR (C := "java/lang/Throwable") (n := "UNASSIGNED_STACK") (d := "[Ljava/lang/StackTraceElement;") (by decide +kernel) q200 dJ0_init_10 ?_
  refine wk_putR (hp_kd G a0) 1 (flJ0_17 _ hk1.1 hk1.2) (flJ0_17_t _ hk1.1 hk1.2).1 (Or.inl (flJ0_17_t _ hk1.1 hk1.2).2.1) rfl hA2 dJ0_init_13 ?_
  exact k
-- blJ0_init_16: left out (callee ('java/lang/Throwable', 'fillInStackTrace', '()Ljava/lang/Throwable;'))
-- blJ0_init_16: left out (callee ('java/lang/Throwable', 'fillInStackTrace', '()Ljava/lang/Throwable;'))
theorem blJ0_init_27 {w : WD} {j : JB} {r : Nat} {G : GH} {sa0 : Option Nat}
    (hP : j.2.2.1 none G)
    : wk_V w mJ0_init j 27 [] [vR sa0] G r := by
  refine wk_pop dJ0_init_27 rfl ?_
  exact wk_return rfl dJ0_init_28 hP
/-! java/lang/Throwable.<init>(Ljava/lang/String;)V -/
theorem blJ0_init_2_0 {w : WD} {j : JB} {r : Nat} {G : GH} {a0 : Nat} {a1 : Option Nat}
    (hdp : 1 ≤ j.1)
    (k : wk_V w mJ0_init_2 j 4 [(0, vR (some a0)), (1, vR a1)] [] G r)
    : wk_V w mJ0_init_2 j 0 [(0, vR (some a0)), (1, vR a1)] [] G r := by
  refine wk_aload_n 0 dJ0_init_2_0 rfl rfl ?_
  exact wk_objInit q199 q171 q172 (by decide) hdp dJ0_init_2_1 k
theorem blJ0_init_2_4 {w : WD} {j : JB} {r : Nat} {G : GH} {a0 : Nat} {a1 : Option Nat}
    (hk1 : 3 ≤ hp_kd G a0 ∧ hp_kd G a0 ≤ 4)
    (hA2 : hp_A w a0)
    (k : wk_V w mJ0_init_2 j 16 [(0, vR (some a0)), (1, vR a1)] [] (hp_sR (hp_sR G a0 0 a0) a0 1 (hp_sv w "java/lang/Throwable" "UNASSIGNED_STACK")) r)
    : wk_V w mJ0_init_2 j 4 [(0, vR (some a0)), (1, vR a1)] [] G r := by
  refine wk_aload_n 0 dJ0_init_2_4 rfl rfl ?_
  refine wk_aload_n 0 dJ0_init_2_5 rfl rfl ?_
  refine wk_putR (hp_kd G a0) 0 (flJ0_7 _ hk1.1 hk1.2) (flJ0_7_t _ hk1.1 hk1.2).1 (Or.inl (flJ0_7_t _ hk1.1 hk1.2).2.1) rfl hA2 dJ0_init_2_6 ?_
  refine wk_aload_n 0 dJ0_init_2_9 rfl rfl ?_
  refine wk_getsR (C := "java/lang/Throwable") (n := "UNASSIGNED_STACK") (d := "[Ljava/lang/StackTraceElement;") (by decide +kernel) q200 dJ0_init_2_10 ?_
  refine wk_putR (hp_kd G a0) 1 (flJ0_17 _ hk1.1 hk1.2) (flJ0_17_t _ hk1.1 hk1.2).1 (Or.inl (flJ0_17_t _ hk1.1 hk1.2).2.1) rfl hA2 dJ0_init_2_13 ?_
  exact k
-- blJ0_init_2_16: left out (callee ('java/lang/Throwable', 'fillInStackTrace', '()Ljava/lang/Throwable;'))
-- blJ0_init_2_16: left out (callee ('java/lang/Throwable', 'fillInStackTrace', '()Ljava/lang/Throwable;'))
theorem blJ0_init_2_27 {w : WD} {j : JB} {r : Nat} {G : GH} {a0 : Nat} {a1 : Option Nat} {sa0 : Option Nat}
    (hk1 : 3 ≤ hp_kd G a0 ∧ hp_kd G a0 ≤ 4)
    (hA2 : hp_A w a0)
    (hP : j.2.2.1 none (hp_sR G a0 3 a1))
    : wk_V w mJ0_init_2 j 27 [(0, vR (some a0)), (1, vR a1)] [vR sa0] G r := by
  refine wk_pop dJ0_init_2_27 rfl ?_
  refine wk_aload_n 0 dJ0_init_2_28 rfl rfl ?_
  refine wk_aload_n 1 dJ0_init_2_29 rfl rfl ?_
  refine wk_putR (hp_kd G a0) 3 (flJ0_31 _ hk1.1 hk1.2) (flJ0_31_t _ hk1.1 hk1.2).1 (Or.inl (flJ0_31_t _ hk1.1 hk1.2).2.1) rfl hA2 dJ0_init_2_30 ?_
  exact wk_return rfl dJ0_init_2_33 hP
/-! java/lang/Throwable.<init>(Ljava/lang/String;Ljava/lang/Throwable;ZZ)V -/
theorem blJ0_init_3_0 {w : WD} {j : JB} {r : Nat} {G : GH} {a0 : Nat} {a1 : Option Nat} {a2 : Option Nat} {x3 : Int32} {x4 : Int32}
    (hdp : 1 ≤ j.1)
    (k : wk_V w mJ0_init_3 j 4 [(0, vR (some a0)), (1, vR a1), (2, vR a2), (3, vI x3), (4, vI x4)] [] G r)
    : wk_V w mJ0_init_3 j 0 [(0, vR (some a0)), (1, vR a1), (2, vR a2), (3, vI x3), (4, vI x4)] [] G r := by
  refine wk_aload_n 0 dJ0_init_3_0 rfl rfl ?_
  exact wk_objInit q199 q171 q172 (by decide) hdp dJ0_init_3_1 k
theorem blJ0_init_3_4 {w : WD} {j : JB} {r : Nat} {G : GH} {a0 : Nat} {a1 : Option Nat} {a2 : Option Nat} {x3 : Int32} {x4 : Int32}
    (hk1 : 3 ≤ hp_kd G a0 ∧ hp_kd G a0 ≤ 4)
    (hA2 : hp_A w a0)
    (k : wk_V w mJ0_init_3 j 16 [(0, vR (some a0)), (1, vR a1), (2, vR a2), (3, vI x3), (4, vI x4)] [] (hp_sR (hp_sR G a0 0 a0) a0 1 (hp_sv w "java/lang/Throwable" "UNASSIGNED_STACK")) r)
    : wk_V w mJ0_init_3 j 4 [(0, vR (some a0)), (1, vR a1), (2, vR a2), (3, vI x3), (4, vI x4)] [] G r := by
  refine wk_aload_n 0 dJ0_init_3_4 rfl rfl ?_
  refine wk_aload_n 0 dJ0_init_3_5 rfl rfl ?_
  refine wk_putR (hp_kd G a0) 0 (flJ0_7 _ hk1.1 hk1.2) (flJ0_7_t _ hk1.1 hk1.2).1 (Or.inl (flJ0_7_t _ hk1.1 hk1.2).2.1) rfl hA2 dJ0_init_3_6 ?_
  refine wk_aload_n 0 dJ0_init_3_9 rfl rfl ?_
  refine wk_getsR (C := "java/lang/Throwable") (n := "UNASSIGNED_STACK") (d := "[Ljava/lang/StackTraceElement;") (by decide +kernel) q200 dJ0_init_3_10 ?_
  refine wk_putR (hp_kd G a0) 1 (flJ0_17 _ hk1.1 hk1.2) (flJ0_17_t _ hk1.1 hk1.2).1 (Or.inl (flJ0_17_t _ hk1.1 hk1.2).2.1) rfl hA2 dJ0_init_3_13 ?_
  exact k
theorem blJ0_init_3_16 {w : WD} {j : JB} {r : Nat} {G : GH} {a0 : Nat} {a1 : Option Nat} {a2 : Option Nat} {x3 : Int32} {x4 : Int32}
    (hk1 : 3 ≤ hp_kd G a0 ∧ hp_kd G a0 ≤ 4)
    (hA2 : hp_A w a0)
    (kt : x4 = 0 → wk_V w mJ0_init_3 j 36 [(0, vR (some a0)), (1, vR a1), (2, vR a2), (3, vI x3)] [] (hp_sR G a0 2 (hp_sv w "java/lang/Throwable" "SUPPRESSED_SENTINEL")) r)
    (kf : ¬ (x4 = 0) → wk_V w mJ0_init_3 j 28 [(0, vR (some a0)), (1, vR a1), (2, vR a2), (3, vI x3)] [] (hp_sR G a0 2 (hp_sv w "java/lang/Throwable" "SUPPRESSED_SENTINEL")) r)
    : wk_V w mJ0_init_3 j 16 [(0, vR (some a0)), (1, vR a1), (2, vR a2), (3, vI x3), (4, vI x4)] [] G r := by
  refine wk_aload_n 0 dJ0_init_3_16 rfl rfl ?_
  refine wk_getsR (C := "java/lang/Throwable") (n := "SUPPRESSED_SENTINEL") (d := "Ljava/util/List;") (by decide +kernel) q202 dJ0_init_3_17 ?_
  refine wk_putR (hp_kd G a0) 2 (flJ0_24 _ hk1.1 hk1.2) (flJ0_24_t _ hk1.1 hk1.2).1 (Or.inl (flJ0_24_t _ hk1.1 hk1.2).2.1) rfl hA2 dJ0_init_3_20 ?_
  refine wk_iload dJ0_init_3_23 rfl ?_
  exact wk_if_eq 36 dJ0_init_3_25 (by decide) (fun h => (wk_sub [(0, vR (some a0)), (1, vR a1), (2, vR a2), (3, vI x3)] ⟨rfl, rfl, rfl, rfl, trivial⟩ (kt h))) (fun h => (wk_sub [(0, vR (some a0)), (1, vR a1), (2, vR a2), (3, vI x3)] ⟨rfl, rfl, rfl, rfl, trivial⟩ (kf h)))
-- blJ0_init_3_28: left out (callee ('java/lang/Throwable', 'fillInStackTrace', '()Ljava/lang/Throwable;'))
-- blJ0_init_3_28: left out (callee ('java/lang/Throwable', 'fillInStackTrace', '()Ljava/lang/Throwable;'))
theorem blJ0_init_3_32 {w : WD} {j : JB} {r : Nat} {G : GH} {a0 : Nat} {a1 : Option Nat} {a2 : Option Nat} {x3 : Int32} {sa0 : Option Nat}
    (k : wk_V w mJ0_init_3 j 41 [(0, vR (some a0)), (1, vR a1), (2, vR a2), (3, vI x3)] [] G r)
    : wk_V w mJ0_init_3 j 32 [(0, vR (some a0)), (1, vR a1), (2, vR a2), (3, vI x3)] [vR sa0] G r := by
  refine wk_pop dJ0_init_3_32 rfl ?_
  exact wk_goto 41 dJ0_init_3_33 (by decide) k
theorem blJ0_init_3_36 {w : WD} {j : JB} {r : Nat} {G : GH} {a0 : Nat} {a1 : Option Nat} {a2 : Option Nat} {x3 : Int32}
    (hk1 : 3 ≤ hp_kd G a0 ∧ hp_kd G a0 ≤ 4)
    (hA2 : hp_A w a0)
    (k : wk_V w mJ0_init_3 j 41 [(0, vR (some a0)), (1, vR a1), (2, vR a2), (3, vI x3)] [] (hp_sR G a0 1 none) r)
    : wk_V w mJ0_init_3 j 36 [(0, vR (some a0)), (1, vR a1), (2, vR a2), (3, vI x3)] [] G r := by
  refine wk_aload_n 0 dJ0_init_3_36 rfl rfl ?_
  refine wk_null dJ0_init_3_37 ?_
  refine wk_putR (hp_kd G a0) 1 (flJ0_17 _ hk1.1 hk1.2) (flJ0_17_t _ hk1.1 hk1.2).1 (Or.inl (flJ0_17_t _ hk1.1 hk1.2).2.1) rfl hA2 dJ0_init_3_38 ?_
  exact k
theorem blJ0_init_3_41 {w : WD} {j : JB} {r : Nat} {G : GH} {a0 : Nat} {a1 : Option Nat} {a2 : Option Nat} {x3 : Int32}
    (hk1 : 3 ≤ hp_kd G a0 ∧ hp_kd G a0 ≤ 4)
    (hA2 : hp_A w a0)
    (k : wk_V w mJ0_init_3 j 51 [(0, vR (some a0)), (3, vI x3)] [] (hp_sR (hp_sR G a0 3 a1) a0 0 a2) r)
    : wk_V w mJ0_init_3 j 41 [(0, vR (some a0)), (1, vR a1), (2, vR a2), (3, vI x3)] [] G r := by
  refine wk_aload_n 0 dJ0_init_3_41 rfl rfl ?_
  refine wk_aload_n 1 dJ0_init_3_42 rfl rfl ?_
  refine wk_putR (hp_kd G a0) 3 (flJ0_31 _ hk1.1 hk1.2) (flJ0_31_t _ hk1.1 hk1.2).1 (Or.inl (flJ0_31_t _ hk1.1 hk1.2).2.1) rfl hA2 dJ0_init_3_43 ?_
  refine wk_aload_n 0 dJ0_init_3_46 rfl rfl ?_
  refine wk_aload_n 2 dJ0_init_3_47 rfl rfl ?_
  refine wk_putR (hp_kd G a0) 0 (flJ0_7 _ hk1.1 hk1.2) (flJ0_7_t _ hk1.1 hk1.2).1 (Or.inl (flJ0_7_t _ hk1.1 hk1.2).2.1) rfl hA2 dJ0_init_3_48 ?_
  exact (wk_sub [(0, vR (some a0)), (3, vI x3)] ⟨rfl, rfl, trivial⟩ k)
theorem blJ0_init_3_51 {w : WD} {j : JB} {r : Nat} {G : GH} {a0 : Nat} {x3 : Int32}
    (kt : ¬ (x3 = 0) → wk_V w mJ0_init_3 j 60 [] [] G r)
    (kf : x3 = 0 → wk_V w mJ0_init_3 j 55 [(0, vR (some a0))] [] G r)
    : wk_V w mJ0_init_3 j 51 [(0, vR (some a0)), (3, vI x3)] [] G r := by
  refine wk_iload_n 3 dJ0_init_3_51 rfl rfl ?_
  exact wk_if_ne 60 dJ0_init_3_52 (by decide) (fun h => (wk_sub [] trivial (kt h))) (fun h => (wk_sub [(0, vR (some a0))] ⟨rfl, trivial⟩ (kf h)))
theorem blJ0_init_3_55 {w : WD} {j : JB} {r : Nat} {G : GH} {a0 : Nat}
    (hk1 : 3 ≤ hp_kd G a0 ∧ hp_kd G a0 ≤ 4)
    (hA2 : hp_A w a0)
    (k : wk_V w mJ0_init_3 j 60 [] [] (hp_sR G a0 2 none) r)
    : wk_V w mJ0_init_3 j 55 [(0, vR (some a0))] [] G r := by
  refine wk_aload_n 0 dJ0_init_3_55 rfl rfl ?_
  refine wk_null dJ0_init_3_56 ?_
  refine wk_putR (hp_kd G a0) 2 (flJ0_24 _ hk1.1 hk1.2) (flJ0_24_t _ hk1.1 hk1.2).1 (Or.inl (flJ0_24_t _ hk1.1 hk1.2).2.1) rfl hA2 dJ0_init_3_57 ?_
  exact (wk_sub [] trivial k)
theorem blJ0_init_3_60 {w : WD} {j : JB} {r : Nat} {G : GH}
    (hP : j.2.2.1 none G)
    : wk_V w mJ0_init_3 j 60 [] [] G r := by
  exact wk_return rfl dJ0_init_3_60 hP
/-! java/lang/Exception.<init>()V -/
theorem blJ1_init_0 {w : WD} {j : JB} {r : Nat} {G : GH} {a0 : Nat} {d' b' : Nat} {P : Option WV → GH → Prop} {PX : String → Nat → GH → Prop}
    (hC : wk_C w mJ0_init d' b' [vR (some a0)] G P PX)
    (hdp : d' + 1 ≤ j.1)
    (hb : b' ≤ r)
    (kr : ∀ v G', P v G' → wk_V w mJ1_init j 4 [] (v.toList ++ []) G' (r - b'))
    (kx : ∀ E q G', PX E q G' → wk_T w mJ1_init j 1 [(0, vR (some a0))] G' (r - b') E q)
    : wk_V w mJ1_init j 0 [(0, vR (some a0))] [] G r := by
  refine wk_aload_n 0 dJ1_init_0 rfl rfl ?_
  exact wk_callI hC rfl rfl rfl q226 q197 q110 q198 mdJ0_init (Nat.le_of_ble_eq_true rfl) rfl rfl (Nat.le_of_ble_eq_true rfl) hdp hb dJ1_init_1 (fun v G' h => (wk_sub [] trivial (kr v G' h))) kx
theorem blJ1_init_4 {w : WD} {j : JB} {r : Nat} {G : GH}
    (hP : j.2.2.1 none G)
    : wk_V w mJ1_init j 4 [] [] G r := by
  exact wk_return rfl dJ1_init_4 hP
/-! java/lang/Exception.<init>(Ljava/lang/String;)V -/
theorem blJ1_init_2_0 {w : WD} {j : JB} {r : Nat} {G : GH} {a0 : Nat} {a1 : Option Nat} {d' b' : Nat} {P : Option WV → GH → Prop} {PX : String → Nat → GH → Prop}
    (hC : wk_C w mJ0_init_2 d' b' [vR (some a0), vR a1] G P PX)
    (hdp : d' + 1 ≤ j.1)
    (hb : b' ≤ r)
    (kr : ∀ v G', P v G' → wk_V w mJ1_init_2 j 5 [] (v.toList ++ []) G' (r - b'))
    (kx : ∀ E q G', PX E q G' → wk_T w mJ1_init_2 j 2 [(0, vR (some a0)), (1, vR a1)] G' (r - b') E q)
    : wk_V w mJ1_init_2 j 0 [(0, vR (some a0)), (1, vR a1)] [] G r := by
  refine wk_aload_n 0 dJ1_init_2_0 rfl rfl ?_
  refine wk_aload_n 1 dJ1_init_2_1 rfl rfl ?_
  exact wk_callI hC rfl rfl rfl q805 q806 q110 q807 mdJ0_init_2 (Nat.le_of_ble_eq_true rfl) rfl rfl (Nat.le_of_ble_eq_true rfl) hdp hb dJ1_init_2_2 (fun v G' h => (wk_sub [] trivial (kr v G' h))) kx
theorem blJ1_init_2_5 {w : WD} {j : JB} {r : Nat} {G : GH}
    (hP : j.2.2.1 none G)
    : wk_V w mJ1_init_2 j 5 [] [] G r := by
  exact wk_return rfl dJ1_init_2_5 hP
/-! java/lang/Exception.<init>(Ljava/lang/String;Ljava/lang/Throwable;ZZ)V -/
theorem blJ1_init_3_0 {w : WD} {j : JB} {r : Nat} {G : GH} {a0 : Nat} {a1 : Option Nat} {a2 : Option Nat} {x3 : Int32} {x4 : Int32} {d' b' : Nat} {P : Option WV → GH → Prop} {PX : String → Nat → GH → Prop}
    (hC : wk_C w mJ0_init_3 d' b' [vR (some a0), vR a1, vR a2, vI x3, vI x4] G P PX)
    (hdp : d' + 1 ≤ j.1)
    (hb : b' ≤ r)
    (kr : ∀ v G', P v G' → wk_V w mJ1_init_3 j 9 [] (v.toList ++ []) G' (r - b'))
    (kx : ∀ E q G', PX E q G' → wk_T w mJ1_init_3 j 6 [(0, vR (some a0)), (1, vR a1), (2, vR a2), (3, vI x3), (4, vI x4)] G' (r - b') E q)
    : wk_V w mJ1_init_3 j 0 [(0, vR (some a0)), (1, vR a1), (2, vR a2), (3, vI x3), (4, vI x4)] [] G r := by
  refine wk_aload_n 0 dJ1_init_3_0 rfl rfl ?_
  refine wk_aload_n 1 dJ1_init_3_1 rfl rfl ?_
  refine wk_aload_n 2 dJ1_init_3_2 rfl rfl ?_
  refine wk_iload_n 3 dJ1_init_3_3 rfl rfl ?_
  refine wk_iload dJ1_init_3_4 rfl ?_
  exact wk_callI hC rfl rfl rfl q2917 q2918 q110 q2919 mdJ0_init_3 (Nat.le_of_ble_eq_true rfl) rfl rfl (Nat.le_of_ble_eq_true rfl) hdp hb dJ1_init_3_6 (fun v G' h => (wk_sub [] trivial (kr v G' h))) kx
theorem blJ1_init_3_9 {w : WD} {j : JB} {r : Nat} {G : GH}
    (hP : j.2.2.1 none G)
    : wk_V w mJ1_init_3 j 9 [] [] G r := by
  exact wk_return rfl dJ1_init_3_9 hP
/-! java/lang/RuntimeException.<init>()V -/
theorem blJ2_init_0 {w : WD} {j : JB} {r : Nat} {G : GH} {a0 : Nat} {d' b' : Nat} {P : Option WV → GH → Prop} {PX : String → Nat → GH → Prop}
    (hC : wk_C w mJ1_init d' b' [vR (some a0)] G P PX)
    (hdp : d' + 1 ≤ j.1)
    (hb : b' ≤ r)
    (kr : ∀ v G', P v G' → wk_V w mJ2_init j 4 [] (v.toList ++ []) G' (r - b'))
    (kx : ∀ E q G', PX E q G' → wk_T w mJ2_init j 1 [(0, vR (some a0))] G' (r - b') E q)
    : wk_V w mJ2_init j 0 [(0, vR (some a0))] [] G r := by
  refine wk_aload_n 0 dJ2_init_0 rfl rfl ?_
  exact wk_callI hC rfl rfl rfl q223 q224 q111 q225 mdJ1_init (Nat.le_of_ble_eq_true rfl) rfl rfl (Nat.le_of_ble_eq_true rfl) hdp hb dJ2_init_1 (fun v G' h => (wk_sub [] trivial (kr v G' h))) kx
theorem blJ2_init_4 {w : WD} {j : JB} {r : Nat} {G : GH}
    (hP : j.2.2.1 none G)
    : wk_V w mJ2_init j 4 [] [] G r := by
  exact wk_return rfl dJ2_init_4 hP
/-! java/lang/RuntimeException.<init>(Ljava/lang/String;)V -/
theorem blJ2_init_2_0 {w : WD} {j : JB} {r : Nat} {G : GH} {a0 : Nat} {a1 : Option Nat} {d' b' : Nat} {P : Option WV → GH → Prop} {PX : String → Nat → GH → Prop}
    (hC : wk_C w mJ1_init_2 d' b' [vR (some a0), vR a1] G P PX)
    (hdp : d' + 1 ≤ j.1)
    (hb : b' ≤ r)
    (kr : ∀ v G', P v G' → wk_V w mJ2_init_2 j 5 [] (v.toList ++ []) G' (r - b'))
    (kx : ∀ E q G', PX E q G' → wk_T w mJ2_init_2 j 2 [(0, vR (some a0)), (1, vR a1)] G' (r - b') E q)
    : wk_V w mJ2_init_2 j 0 [(0, vR (some a0)), (1, vR a1)] [] G r := by
  refine wk_aload_n 0 dJ2_init_2_0 rfl rfl ?_
  refine wk_aload_n 1 dJ2_init_2_1 rfl rfl ?_
  exact wk_callI hC rfl rfl rfl q802 q803 q111 q804 mdJ1_init_2 (Nat.le_of_ble_eq_true rfl) rfl rfl (Nat.le_of_ble_eq_true rfl) hdp hb dJ2_init_2_2 (fun v G' h => (wk_sub [] trivial (kr v G' h))) kx
theorem blJ2_init_2_5 {w : WD} {j : JB} {r : Nat} {G : GH}
    (hP : j.2.2.1 none G)
    : wk_V w mJ2_init_2 j 5 [] [] G r := by
  exact wk_return rfl dJ2_init_2_5 hP
/-! java/lang/RuntimeException.<init>(Ljava/lang/String;Ljava/lang/Throwable;ZZ)V -/
theorem blJ2_init_3_0 {w : WD} {j : JB} {r : Nat} {G : GH} {a0 : Nat} {a1 : Option Nat} {a2 : Option Nat} {x3 : Int32} {x4 : Int32} {d' b' : Nat} {P : Option WV → GH → Prop} {PX : String → Nat → GH → Prop}
    (hC : wk_C w mJ1_init_3 d' b' [vR (some a0), vR a1, vR a2, vI x3, vI x4] G P PX)
    (hdp : d' + 1 ≤ j.1)
    (hb : b' ≤ r)
    (kr : ∀ v G', P v G' → wk_V w mJ2_init_3 j 9 [] (v.toList ++ []) G' (r - b'))
    (kx : ∀ E q G', PX E q G' → wk_T w mJ2_init_3 j 6 [(0, vR (some a0)), (1, vR a1), (2, vR a2), (3, vI x3), (4, vI x4)] G' (r - b') E q)
    : wk_V w mJ2_init_3 j 0 [(0, vR (some a0)), (1, vR a1), (2, vR a2), (3, vI x3), (4, vI x4)] [] G r := by
  refine wk_aload_n 0 dJ2_init_3_0 rfl rfl ?_
  refine wk_aload_n 1 dJ2_init_3_1 rfl rfl ?_
  refine wk_aload_n 2 dJ2_init_3_2 rfl rfl ?_
  refine wk_iload_n 3 dJ2_init_3_3 rfl rfl ?_
  refine wk_iload dJ2_init_3_4 rfl ?_
  exact wk_callI hC rfl rfl rfl q2914 q2915 q111 q2916 mdJ1_init_3 (Nat.le_of_ble_eq_true rfl) rfl rfl (Nat.le_of_ble_eq_true rfl) hdp hb dJ2_init_3_6 (fun v G' h => (wk_sub [] trivial (kr v G' h))) kx
theorem blJ2_init_3_9 {w : WD} {j : JB} {r : Nat} {G : GH}
    (hP : j.2.2.1 none G)
    : wk_V w mJ2_init_3 j 9 [] [] G r := by
  exact wk_return rfl dJ2_init_3_9 hP
/-! java/util/AbstractCollection.<init>()V -/
theorem blJ3_init_0 {w : WD} {j : JB} {r : Nat} {G : GH} {a0 : Nat}
    (hdp : 1 ≤ j.1)
    (k : wk_V w mJ3_init j 4 [] [] G r)
    : wk_V w mJ3_init j 0 [(0, vR (some a0))] [] G r := by
  refine wk_aload_n 0 dJ3_init_0 rfl rfl ?_
  exact wk_objInit q266 q171 q172 (by decide) hdp dJ3_init_1 (wk_sub [] trivial k)
theorem blJ3_init_4 {w : WD} {j : JB} {r : Nat} {G : GH}
    (hP : j.2.2.1 none G)
    : wk_V w mJ3_init j 4 [] [] G r := by
  exact wk_return rfl dJ3_init_4 hP
/-! java/util/AbstractList.<init>()V -/
theorem blJ4_init_0 {w : WD} {j : JB} {r : Nat} {G : GH} {a0 : Nat} {d' b' : Nat} {P : Option WV → GH → Prop} {PX : String → Nat → GH → Prop}
    (hC : wk_C w mJ3_init d' b' [vR (some a0)] G P PX)
    (hdp : d' + 1 ≤ j.1)
    (hb : b' ≤ r)
    (kr : ∀ v G', P v G' → wk_V w mJ4_init j 4 [(0, vR (some a0))] (v.toList ++ []) G' (r - b'))
    (kx : ∀ E q G', PX E q G' → wk_T w mJ4_init j 1 [(0, vR (some a0))] G' (r - b') E q)
    : wk_V w mJ4_init j 0 [(0, vR (some a0))] [] G r := by
  refine wk_aload_n 0 dJ4_init_0 rfl rfl ?_
  exact wk_callI hC rfl rfl rfl q263 q264 q115 q265 mdJ3_init (Nat.le_of_ble_eq_true rfl) rfl rfl (Nat.le_of_ble_eq_true rfl) hdp hb dJ4_init_1 kr kx
theorem blJ4_init_4 {w : WD} {j : JB} {r : Nat} {G : GH} {a0 : Nat}
    (hk1 : hp_kd G a0 = 22)
    (hA2 : hp_A w a0)
    (hP : j.2.2.1 none (hp_sI G a0 2 (0 : Int32)))
    : wk_V w mJ4_init j 4 [(0, vR (some a0))] [] G r := by
  refine wk_aload_n 0 dJ4_init_4 rfl rfl ?_
  refine wk_iconst (0 : Int32) dJ4_init_5 (by decide) ?_
  refine wk_putI 22 2 flJ4_7 rfl (Or.inl rfl) hk1 hA2 ⟨rfl, rfl⟩ dJ4_init_6 ?_
  exact wk_return rfl dJ4_init_9 hP
/-! java/util/ArrayList.add(Ljava/lang/Object;)Z -/
theorem blJ5_add_0 {w : WD} {j : JB} {r : Nat} {G : GH} {a0 : Nat} {a1 : Option Nat} {d' b' : Nat} {P : Option WV → GH → Prop} {PX : String → Nat → GH → Prop}
    (hk1 : hp_kd G a0 = 22)
    (hA3 : hp_A w a0)
    (hC : wk_C w mJ5_add_2 d' b' [vR (some a0), vR a1, vR (hp_r G a0 0), vI (hp_i (hp_sI G a0 2 ((hp_i G a0 2) + (1 : Int32))) a0 1)] (hp_sI G a0 2 ((hp_i G a0 2) + (1 : Int32))) P PX)
    (hdp : d' + 1 ≤ j.1)
    (hb : b' ≤ r)
    (kr : ∀ v G', P v G' → wk_V w mJ5_add j 23 [] (v.toList ++ []) G' (r - b'))
    (kx : ∀ E q G', PX E q G' → wk_T w mJ5_add j 20 [(0, vR (some a0)), (1, vR a1)] G' (r - b') E q)
    : wk_V w mJ5_add j 0 [(0, vR (some a0)), (1, vR a1)] [] G r := by
  refine wk_aload_n 0 dJ5_add_0 rfl rfl ?_
  refine wk_dup dJ5_add_1 rfl ?_
  refine wk_getI 22 2 flJ5_63 rfl hk1 dJ5_add_2 ?_
  refine wk_iconst (1 : Int32) dJ5_add_5 (by decide) ?_
  refine wk_iadd dJ5_add_6 ?_
  refine wk_putI 22 2 flJ5_63 rfl (Or.inl rfl) hk1 hA3 ⟨rfl, rfl⟩ dJ5_add_7 ?_
  refine wk_aload_n 0 dJ5_add_10 rfl rfl ?_
  refine wk_aload_n 1 dJ5_add_11 rfl rfl ?_
  refine wk_aload_n 0 dJ5_add_12 rfl rfl ?_
  refine wk_getR 22 0 flJ5_9 rfl hk1 dJ5_add_13 ?_
  refine wk_aload_n 0 dJ5_add_16 rfl rfl ?_
  refine wk_getI 22 1 flJ5_48 rfl hk1 dJ5_add_17 ?_
  exact wk_callV hC rfl q1450 q1452 qs17 q117 q1453 mdJ5_add_2 (Nat.le_of_ble_eq_true rfl) ⟨by show hp_kd G a0 ≠ 0; rw [hk1]; decide, by show hp_kd G a0 < 28; rw [hk1]; decide, by show hp_C (hp_kd G a0) = _; rw [hk1]; rfl⟩ rfl rfl (Nat.le_of_ble_eq_true rfl) hdp hb dJ5_add_20 (fun v G' h => (wk_sub [] trivial (kr v G' h))) kx
theorem blJ5_add_23 {w : WD} {j : JB} {r : Nat} {G : GH}
    (hP : j.2.2.1 (some (vI (1 : Int32))) G)
    : wk_V w mJ5_add j 23 [] [] G r := by
  refine wk_iconst (1 : Int32) dJ5_add_23 (by decide) ?_
  exact wk_ireturn rfl rfl dJ5_add_24 hP
/-! java/util/ArrayList.add(Ljava/lang/Object;[Ljava/lang/Object;I)V -/
theorem blJ5_add_2_0 {w : WD} {j : JB} {r : Nat} {G : GH} {a0 : Nat} {a1 : Option Nat} {a2 : Option Nat} {x3 : Int32} {o1 : Nat}
    (e1 : a2 = some o1)
    (hk2 : 28 ≤ hp_kd G o1)
    (kt : ¬ (x3 = (nI (hp_ln G o1))) → wk_V w mJ5_add_2 j 11 [(0, vR (some a0)), (1, vR a1), (2, vR a2), (3, vI x3)] [] G r)
    (kf : x3 = (nI (hp_ln G o1)) → wk_V w mJ5_add_2 j 6 [(0, vR (some a0)), (1, vR a1), (3, vI x3)] [] G r)
    : wk_V w mJ5_add_2 j 0 [(0, vR (some a0)), (1, vR a1), (2, vR a2), (3, vI x3)] [] G r := by
  refine wk_iload_n 3 dJ5_add_2_0 rfl rfl ?_
  refine wk_aload_n 2 dJ5_add_2_1 rfl rfl ?_
  refine wk_e e1 ?_
  refine wk_alen hk2 dJ5_add_2_2 ?_
  exact wk_icmp_ne 11 dJ5_add_2_3 (by decide) (fun h => (kt h)) (fun h => (wk_sub [(0, vR (some a0)), (1, vR a1), (3, vI x3)] ⟨rfl, rfl, rfl, trivial⟩ (kf h)))
theorem blJ5_add_2_6 {w : WD} {j : JB} {r : Nat} {G : GH} {a0 : Nat} {a1 : Option Nat} {x3 : Int32} {d' b' : Nat} {P : Option WV → GH → Prop} {PX : String → Nat → GH → Prop}
    (hkr : hp_kd G a0 = 22)
    (hC : wk_C w mJ5_grow d' b' [vR (some a0)] G P PX)
    (hdp : d' + 1 ≤ j.1)
    (hb : b' ≤ r)
    (kr : ∀ v G', P v G' → wk_V w mJ5_add_2 j 10 [(0, vR (some a0)), (1, vR a1), (3, vI x3)] (v.toList ++ []) G' (r - b'))
    (kx : ∀ E q G', PX E q G' → wk_T w mJ5_add_2 j 7 [(0, vR (some a0)), (1, vR a1), (3, vI x3)] G' (r - b') E q)
    : wk_V w mJ5_add_2 j 6 [(0, vR (some a0)), (1, vR a1), (3, vI x3)] [] G r := by
  refine wk_aload_n 0 dJ5_add_2_6 rfl rfl ?_
  exact wk_callV hC rfl q1454 q1456 qs18 q117 q1457 mdJ5_grow (Nat.le_of_ble_eq_true rfl) ⟨by show hp_kd G a0 ≠ 0; rw [hkr]; decide, by show hp_kd G a0 < 28; rw [hkr]; decide, by show hp_C (hp_kd G a0) = _; rw [hkr]; rfl⟩ rfl rfl (Nat.le_of_ble_eq_true rfl) hdp hb dJ5_add_2_7 kr kx
theorem blJ5_add_2_10 {w : WD} {j : JB} {r : Nat} {G : GH} {a0 : Nat} {a1 : Option Nat} {x3 : Int32} {sa0 : Option Nat}
    (k : wk_V w mJ5_add_2 j 11 [(0, vR (some a0)), (1, vR a1), (2, vR sa0), (3, vI x3)] [] G r)
    : wk_V w mJ5_add_2 j 10 [(0, vR (some a0)), (1, vR a1), (3, vI x3)] [vR sa0] G r := by
  refine wk_astore_n 2 dJ5_add_2_10 rfl (Nat.le_of_ble_eq_true rfl) ?_
  exact k
theorem blJ5_add_2_11 {w : WD} {j : JB} {r : Nat} {G : GH} {a0 : Nat} {a1 : Option Nat} {a2 : Option Nat} {x3 : Int32} {o1 : Nat} {T5 : String}
    (e1 : a2 = some o1)
    (hi2 : vp_in x3 (hp_ln G o1))
    (hA3 : hp_A w o1)
    (hk4 : 32 ≤ hp_kd G o1)
    (hT6 : hp_at (hp_kd G o1) = .object T5)
    (hx7 : ∀ b, a1 = some b → hp_kd G b ≠ 0 ∧ hp_kd G b < 28 ∧ hp_sub (hp_kd G b) T5)
    (hk8 : hp_kd G a0 = 22)
    (hA9 : hp_A w a0)
    (k : wk_V w mJ5_add_2 j 22 [] [] (hp_sI (hp_sR G o1 x3.toNatClampNeg a1) a0 1 (x3 + (1 : Int32))) r)
    : wk_V w mJ5_add_2 j 11 [(0, vR (some a0)), (1, vR a1), (2, vR a2), (3, vI x3)] [] G r := by
  refine wk_aload_n 2 dJ5_add_2_11 rfl rfl ?_
  refine wk_iload_n 3 dJ5_add_2_12 rfl rfl ?_
  refine wk_aload_n 1 dJ5_add_2_13 rfl rfl ?_
  refine wk_e3 e1 ?_
  refine wk_aast hk4 hT6 hA3 hi2 hx7 dJ5_add_2_14 ?_
  refine wk_aload_n 0 dJ5_add_2_15 rfl rfl ?_
  refine wk_iload_n 3 dJ5_add_2_16 rfl rfl ?_
  refine wk_iconst (1 : Int32) dJ5_add_2_17 (by decide) ?_
  refine wk_iadd dJ5_add_2_18 ?_
  refine wk_putI 22 1 flJ5_48 rfl (Or.inl rfl) hk8 hA9 ⟨rfl, rfl⟩ dJ5_add_2_19 ?_
  exact (wk_sub [] trivial k)
theorem blJ5_add_2_22 {w : WD} {j : JB} {r : Nat} {G : GH}
    (hP : j.2.2.1 none G)
    : wk_V w mJ5_add_2 j 22 [] [] G r := by
  exact wk_return rfl dJ5_add_2_22 hP
/-! java/util/ArrayList.clear()V -/
theorem blJ5_clear_0 {w : WD} {j : JB} {r : Nat} {G : GH} {a0 : Nat}
    (hk1 : hp_kd G a0 = 22)
    (hA3 : hp_A w a0)
    (k : wk_V w mJ5_clear j 26 [(1, vR (hp_r G a0 0)), (2, vI (hp_i (hp_sI G a0 2 ((hp_i G a0 2) + (1 : Int32))) a0 1))] [vI (0 : Int32)] (hp_sI (hp_sI G a0 2 ((hp_i G a0 2) + (1 : Int32))) a0 1 (0 : Int32)) r)
    : wk_V w mJ5_clear j 0 [(0, vR (some a0))] [] G r := by
  refine wk_aload_n 0 dJ5_clear_0 rfl rfl ?_
  refine wk_dup dJ5_clear_1 rfl ?_
  refine wk_getI 22 2 flJ5_63 rfl hk1 dJ5_clear_2 ?_
  refine wk_iconst (1 : Int32) dJ5_clear_5 (by decide) ?_
  refine wk_iadd dJ5_clear_6 ?_
  refine wk_putI 22 2 flJ5_63 rfl (Or.inl rfl) hk1 hA3 ⟨rfl, rfl⟩ dJ5_clear_7 ?_
  refine wk_aload_n 0 dJ5_clear_10 rfl rfl ?_
  refine wk_getR 22 0 flJ5_9 rfl hk1 dJ5_clear_11 ?_
  refine wk_astore_n 1 dJ5_clear_14 rfl (Nat.le_of_ble_eq_true rfl) ?_
  refine wk_aload_n 0 dJ5_clear_15 rfl rfl ?_
  refine wk_getI 22 1 flJ5_48 rfl hk1 dJ5_clear_16 ?_
  refine wk_istore_n 2 dJ5_clear_19 rfl (Nat.le_of_ble_eq_true rfl) ?_
  refine wk_aload_n 0 dJ5_clear_20 rfl rfl ?_
  refine wk_iconst (0 : Int32) dJ5_clear_21 (by decide) ?_
  refine wk_dup_x1 dJ5_clear_22 rfl rfl ?_
  refine wk_putI 22 1 flJ5_48 rfl (Or.inl rfl) hk1 hA3 ⟨rfl, rfl⟩ dJ5_clear_23 ?_
  exact (wk_sub [(1, vR (hp_r G a0 0)), (2, vI (hp_i (hp_sI G a0 2 ((hp_i G a0 2) + (1 : Int32))) a0 1))] ⟨rfl, rfl, trivial⟩ k)
theorem blJ5_clear_26 {w : WD} {j : JB} {r : Nat} {G : GH} {a1 : Option Nat} {x2 : Int32} {s0 : Int32}
    (k : wk_V w mJ5_clear j 27 [(1, vR a1), (2, vI x2), (3, vI s0)] [] G r)
    : wk_V w mJ5_clear j 26 [(1, vR a1), (2, vI x2)] [vI s0] G r := by
  refine wk_istore_n 3 dJ5_clear_26 rfl (Nat.le_of_ble_eq_true rfl) ?_
  exact k
theorem blJ5_clear_27 {w : WD} {j : JB} {r : Nat} {G : GH} {a1 : Option Nat} {x2 : Int32} {x3 : Int32}
    (kt : x2 ≤ x3 → wk_V w mJ5_clear j 42 [] [] G r)
    (kf : ¬ (x2 ≤ x3) → wk_V w mJ5_clear j 32 [(1, vR a1), (2, vI x2), (3, vI x3)] [] G r)
    : wk_V w mJ5_clear j 27 [(1, vR a1), (2, vI x2), (3, vI x3)] [] G r := by
  refine wk_iload_n 3 dJ5_clear_27 rfl rfl ?_
  refine wk_iload_n 2 dJ5_clear_28 rfl rfl ?_
  exact wk_icmp_ge 42 dJ5_clear_29 (by decide) (fun h => (wk_sub [] trivial (kt h))) (fun h => (kf h))
theorem blJ5_clear_32 {w : WD} {j : JB} {r : Nat} {G : GH} {a1 : Option Nat} {x2 : Int32} {x3 : Int32} {o1 : Nat} {T5 : String}
    (e1 : a1 = some o1)
    (hi2 : vp_in x3 (hp_ln G o1))
    (hA3 : hp_A w o1)
    (hk4 : 32 ≤ hp_kd G o1)
    (hT6 : hp_at (hp_kd G o1) = .object T5)
    (hx7 : ∀ b, none = some b → hp_kd G b ≠ 0 ∧ hp_kd G b < 28 ∧ hp_sub (hp_kd G b) T5)
    (k : wk_V w mJ5_clear j 27 [(1, vR a1), (2, vI x2), (3, vI (x3 + (1 : Int32)))] [] (hp_sR G o1 x3.toNatClampNeg none) r)
    : wk_V w mJ5_clear j 32 [(1, vR a1), (2, vI x2), (3, vI x3)] [] G r := by
  refine wk_aload_n 1 dJ5_clear_32 rfl rfl ?_
  refine wk_iload_n 3 dJ5_clear_33 rfl rfl ?_
  refine wk_null dJ5_clear_34 ?_
  refine wk_e3 e1 ?_
  refine wk_aast hk4 hT6 hA3 hi2 hx7 dJ5_clear_35 ?_
  refine wk_iincC (1 : Int32) dJ5_clear_36 rfl (by decide) (Nat.le_of_ble_eq_true rfl) ?_
  exact wk_goto 27 dJ5_clear_39 (by decide) k
theorem blJ5_clear_42 {w : WD} {j : JB} {r : Nat} {G : GH}
    (hP : j.2.2.1 none G)
    : wk_V w mJ5_clear j 42 [] [] G r := by
  exact wk_return rfl dJ5_clear_42 hP
/-! java/util/ArrayList.elementData(I)Ljava/lang/Object; -/
theorem blJ5_elementData_0 {w : WD} {j : JB} {r : Nat} {G : GH} {a0 : Nat} {x1 : Int32} {o2 : Nat}
    (hk1 : hp_kd G a0 = 22)
    (e2 : (hp_r G a0 0) = some o2)
    (hi3 : vp_in x1 (hp_ln G o2))
    (hk4 : 32 ≤ hp_kd G o2)
    (hP : j.2.2.1 (some (vR (hp_r G o2 x1.toNatClampNeg))) G)
    : wk_V w mJ5_elementData j 0 [(0, vR (some a0)), (1, vI x1)] [] G r := by
  refine wk_aload_n 0 dJ5_elementData_0 rfl rfl ?_
  refine wk_getR 22 0 flJ5_9 rfl hk1 dJ5_elementData_1 ?_
  refine wk_iload_n 1 dJ5_elementData_4 rfl rfl ?_
  refine wk_e2 e2 ?_
  refine wk_aald hk4 hi3 dJ5_elementData_5 ?_
  exact wk_areturn rfl (Or.inl ⟨_, rfl⟩) dJ5_elementData_6 hP
/-! java/util/ArrayList.get(I)Ljava/lang/Object; -/
theorem blJ5_get_0 {w : WD} {j : JB} {r : Nat} {G : GH} {a0 : Nat} {x1 : Int32} {d' b' : Nat} {P : Option WV → GH → Prop} {PX : String → Nat → GH → Prop}
    (hk1 : hp_kd G a0 = 22)
    (hC : wk_C w mJ23_checkIndex d' b' [vI x1, vI (hp_i G a0 1)] G P PX)
    (hdp : d' + 1 ≤ j.1)
    (hb : b' ≤ r)
    (kr : ∀ v G', P v G' → wk_V w mJ5_get j 8 [(0, vR (some a0)), (1, vI x1)] (v.toList ++ []) G' (r - b'))
    (kx : ∀ E q G', PX E q G' → wk_T w mJ5_get j 5 [(0, vR (some a0)), (1, vI x1)] G' (r - b') E q)
    : wk_V w mJ5_get j 0 [(0, vR (some a0)), (1, vI x1)] [] G r := by
  refine wk_iload_n 1 dJ5_get_0 rfl rfl ?_
  refine wk_aload_n 0 dJ5_get_1 rfl rfl ?_
  refine wk_getI 22 1 flJ5_48 rfl hk1 dJ5_get_2 ?_
  exact wk_callS hC rfl q1437 q1438 q143 q1439 mdJ23_checkIndex (Nat.le_of_ble_eq_true rfl) rfl rfl (Nat.le_of_ble_eq_true rfl) hdp hb dJ5_get_5 kr kx
theorem blJ5_get_8 {w : WD} {j : JB} {r : Nat} {G : GH} {a0 : Nat} {x1 : Int32} {s0 : Int32} {d' b' : Nat} {P : Option WV → GH → Prop} {PX : String → Nat → GH → Prop}
    (hkr : hp_kd G a0 = 22)
    (hC : wk_C w mJ5_elementData d' b' [vR (some a0), vI x1] G P PX)
    (hdp : d' + 1 ≤ j.1)
    (hb : b' ≤ r)
    (kr : ∀ v G', P v G' → wk_V w mJ5_get j 14 [] (v.toList ++ []) G' (r - b'))
    (kx : ∀ E q G', PX E q G' → wk_T w mJ5_get j 11 [(0, vR (some a0)), (1, vI x1)] G' (r - b') E q)
    : wk_V w mJ5_get j 8 [(0, vR (some a0)), (1, vI x1)] [vI s0] G r := by
  refine wk_pop dJ5_get_8 rfl ?_
  refine wk_aload_n 0 dJ5_get_9 rfl rfl ?_
  refine wk_iload_n 1 dJ5_get_10 rfl rfl ?_
  exact wk_callV hC rfl q1441 q1442 q1443 q117 q1444 mdJ5_elementData (Nat.le_of_ble_eq_true rfl) ⟨by show hp_kd G a0 ≠ 0; rw [hkr]; decide, by show hp_kd G a0 < 28; rw [hkr]; decide, by show hp_C (hp_kd G a0) = _; rw [hkr]; rfl⟩ rfl rfl (Nat.le_of_ble_eq_true rfl) hdp hb dJ5_get_11 (fun v G' h => (wk_sub [] trivial (kr v G' h))) kx
theorem blJ5_get_14 {w : WD} {j : JB} {r : Nat} {G : GH} {sa0 : Option Nat}
    (hP : j.2.2.1 (some (vR sa0)) G)
    : wk_V w mJ5_get j 14 [] [vR sa0] G r := by
  exact wk_areturn rfl (Or.inl ⟨_, rfl⟩) dJ5_get_14 hP
/-! java/util/ArrayList.grow()[Ljava/lang/Object; -/
theorem blJ5_grow_0 {w : WD} {j : JB} {r : Nat} {G : GH} {a0 : Nat} {d' b' : Nat} {P : Option WV → GH → Prop} {PX : String → Nat → GH → Prop}
    (hk1 : hp_kd G a0 = 22)
    (hC : wk_C w mJ5_grow_2 d' b' [vR (some a0), vI ((hp_i G a0 1) + (1 : Int32))] G P PX)
    (hdp : d' + 1 ≤ j.1)
    (hb : b' ≤ r)
    (kr : ∀ v G', P v G' → wk_V w mJ5_grow j 10 [] (v.toList ++ []) G' (r - b'))
    (kx : ∀ E q G', PX E q G' → wk_T w mJ5_grow j 7 [(0, vR (some a0))] G' (r - b') E q)
    : wk_V w mJ5_grow j 0 [(0, vR (some a0))] [] G r := by
  refine wk_aload_n 0 dJ5_grow_0 rfl rfl ?_
  refine wk_aload_n 0 dJ5_grow_1 rfl rfl ?_
  refine wk_getI 22 1 flJ5_48 rfl hk1 dJ5_grow_2 ?_
  refine wk_iconst (1 : Int32) dJ5_grow_5 (by decide) ?_
  refine wk_iadd dJ5_grow_6 ?_
  exact wk_callV hC rfl q1458 q1460 qs19 q117 q1461 mdJ5_grow_2 (Nat.le_of_ble_eq_true rfl) ⟨by show hp_kd G a0 ≠ 0; rw [hk1]; decide, by show hp_kd G a0 < 28; rw [hk1]; decide, by show hp_C (hp_kd G a0) = _; rw [hk1]; rfl⟩ rfl rfl (Nat.le_of_ble_eq_true rfl) hdp hb dJ5_grow_7 (fun v G' h => (wk_sub [] trivial (kr v G' h))) kx
theorem blJ5_grow_10 {w : WD} {j : JB} {r : Nat} {G : GH} {sa0 : Option Nat}
    (hP : j.2.2.1 (some (vR sa0)) G)
    : wk_V w mJ5_grow j 10 [] [vR sa0] G r := by
  exact wk_areturn rfl (Or.inr ⟨_, rfl⟩) dJ5_grow_10 hP
/-! java/util/ArrayList.grow(I)[Ljava/lang/Object; -/
theorem blJ5_grow_2_0 {w : WD} {j : JB} {r : Nat} {G : GH} {a0 : Nat} {x1 : Int32} {o2 : Nat}
    (hk1 : hp_kd G a0 = 22)
    (e2 : (hp_r G a0 0) = some o2)
    (hk3 : 28 ≤ hp_kd G o2)
    (kt : 0 < (nI (hp_ln G o2)) → wk_V w mJ5_grow_2 j 20 [(0, vR (some a0)), (1, vI x1), (2, vI (nI (hp_ln G o2)))] [] G r)
    (kf : ¬ (0 < (nI (hp_ln G o2))) → wk_V w mJ5_grow_2 j 10 [(0, vR (some a0)), (1, vI x1), (2, vI (nI (hp_ln G o2)))] [] G r)
    : wk_V w mJ5_grow_2 j 0 [(0, vR (some a0)), (1, vI x1)] [] G r := by
  refine wk_aload_n 0 dJ5_grow_2_0 rfl rfl ?_
  refine wk_getR 22 0 flJ5_9 rfl hk1 dJ5_grow_2_1 ?_
  refine wk_e e2 ?_
  refine wk_alen hk3 dJ5_grow_2_4 ?_
  refine wk_istore_n 2 dJ5_grow_2_5 rfl (Nat.le_of_ble_eq_true rfl) ?_
  refine wk_iload_n 2 dJ5_grow_2_6 rfl rfl ?_
  exact wk_if_gt 20 dJ5_grow_2_7 (by decide) (fun h => (kt h)) (fun h => (kf h))
theorem blJ5_grow_2_10 {w : WD} {j : JB} {r : Nat} {G : GH} {a0 : Nat} {x1 : Int32} {x2 : Int32}
    (hk1 : hp_kd G a0 = 22)
    (kt : (hp_r G a0 0) = (hp_sv w "java/util/ArrayList" "DEFAULTCAPACITY_EMPTY_ELEMENTDATA") → wk_V w mJ5_grow_2 j 45 [(0, vR (some a0)), (1, vI x1)] [] G r)
    (kf : ¬ ((hp_r G a0 0) = (hp_sv w "java/util/ArrayList" "DEFAULTCAPACITY_EMPTY_ELEMENTDATA")) → wk_V w mJ5_grow_2 j 20 [(0, vR (some a0)), (1, vI x1), (2, vI x2)] [] G r)
    : wk_V w mJ5_grow_2 j 10 [(0, vR (some a0)), (1, vI x1), (2, vI x2)] [] G r := by
  refine wk_aload_n 0 dJ5_grow_2_10 rfl rfl ?_
  refine wk_getR 22 0 flJ5_9 rfl hk1 dJ5_grow_2_11 ?_
  refine wk_getsR (C := "java/util/ArrayList") (n := "DEFAULTCAPACITY_EMPTY_ELEMENTDATA") (d := "[Ljava/lang/Object;") (by decide +kernel) q267 dJ5_grow_2_14 ?_
  exact wk_acmp_eq 45 dJ5_grow_2_17 (by decide) (fun h => (wk_sub [(0, vR (some a0)), (1, vI x1)] ⟨rfl, rfl, trivial⟩ (kt h))) (fun h => (kf h))
theorem blJ5_grow_2_20 {w : WD} {j : JB} {r : Nat} {G : GH} {a0 : Nat} {x1 : Int32} {x2 : Int32} {d' b' : Nat} {P : Option WV → GH → Prop} {PX : String → Nat → GH → Prop}
    (hC : wk_C w mJ15_newLength d' b' [vI x2, vI (x1 - x2), vI (x2 >>> ((1 : Int32) &&& 31))] G P PX)
    (hdp : d' + 1 ≤ j.1)
    (hb : b' ≤ r)
    (kr : ∀ v G', P v G' → wk_V w mJ5_grow_2 j 30 [(0, vR (some a0))] (v.toList ++ []) G' (r - b'))
    (kx : ∀ E q G', PX E q G' → wk_T w mJ5_grow_2 j 27 [(0, vR (some a0)), (1, vI x1), (2, vI x2)] G' (r - b') E q)
    : wk_V w mJ5_grow_2 j 20 [(0, vR (some a0)), (1, vI x1), (2, vI x2)] [] G r := by
  refine wk_iload_n 2 dJ5_grow_2_20 rfl rfl ?_
  refine wk_iload_n 1 dJ5_grow_2_21 rfl rfl ?_
  refine wk_iload_n 2 dJ5_grow_2_22 rfl rfl ?_
  refine wk_isub dJ5_grow_2_23 ?_
  refine wk_iload_n 2 dJ5_grow_2_24 rfl rfl ?_
  refine wk_iconst (1 : Int32) dJ5_grow_2_25 (by decide) ?_
  refine wk_ishr dJ5_grow_2_26 ?_
  exact wk_callS hC rfl q1462 q592 q131 q593 mdJ15_newLength (Nat.le_of_ble_eq_true rfl) rfl rfl (Nat.le_of_ble_eq_true rfl) hdp hb dJ5_grow_2_27 (fun v G' h => (wk_sub [(0, vR (some a0))] ⟨rfl, trivial⟩ (kr v G' h))) kx
theorem blJ5_grow_2_30 {w : WD} {j : JB} {r : Nat} {G : GH} {a0 : Nat} {s0 : Int32} {d' b' : Nat} {P : Option WV → GH → Prop} {PX : String → Nat → GH → Prop}
    (hk1 : hp_kd G a0 = 22)
    (hC : wk_C w mJ17_copyOf_2 d' b' [vR (hp_r G a0 0), vI s0] G P PX)
    (hdp : d' + 1 ≤ j.1)
    (hb : b' ≤ r)
    (kr : ∀ v G', P v G' → wk_V w mJ5_grow_2 j 40 [] (v.toList ++ [vR (some a0)]) G' (r - b'))
    (kx : ∀ E q G', PX E q G' → wk_T w mJ5_grow_2 j 37 [(0, vR (some a0)), (3, vI s0)] G' (r - b') E q)
    : wk_V w mJ5_grow_2 j 30 [(0, vR (some a0))] [vI s0] G r := by
  refine wk_istore_n 3 dJ5_grow_2_30 rfl (Nat.le_of_ble_eq_true rfl) ?_
  refine wk_aload_n 0 dJ5_grow_2_31 rfl rfl ?_
  refine wk_aload_n 0 dJ5_grow_2_32 rfl rfl ?_
  refine wk_getR 22 0 flJ5_9 rfl hk1 dJ5_grow_2_33 ?_
  refine wk_iload_n 3 dJ5_grow_2_36 rfl rfl ?_
  exact wk_callS hC rfl q1463 q1464 q133 q1465 mdJ17_copyOf_2 (Nat.le_of_ble_eq_true rfl) rfl rfl (Nat.le_of_ble_eq_true rfl) hdp hb dJ5_grow_2_37 (fun v G' h => (wk_sub [] trivial (kr v G' h))) kx
theorem blJ5_grow_2_40 {w : WD} {j : JB} {r : Nat} {G : GH} {s0 : Option Nat} {sa1 : Option Nat} {o1 : Nat}
    (e1 : s0 = some o1)
    (hk2 : hp_kd G o1 = 22)
    (hA3 : hp_A w o1)
    (hP : j.2.2.1 (some (vR sa1)) (hp_sR G o1 0 sa1))
    : wk_V w mJ5_grow_2 j 40 [] [vR sa1, vR s0] G r := by
  refine wk_dup_x1 dJ5_grow_2_40 rfl rfl ?_
  refine wk_e2 e1 ?_
  refine wk_putR 22 0 flJ5_9 rfl (Or.inl rfl) hk2 hA3 dJ5_grow_2_41 ?_
  exact wk_areturn rfl (Or.inr ⟨_, rfl⟩) dJ5_grow_2_44 hP
theorem blJ5_grow_2_45 {w : WD} {j : JB} {r : Nat} {G : GH} {a0 : Nat} {x1 : Int32}
    (hdp : 1 ≤ j.1)
    (k : wk_V w mJ5_grow_2 j 52 [] [vI (if (10 : Int32) < x1 then x1 else (10 : Int32)), vR (some a0)] G r)
    : wk_V w mJ5_grow_2 j 45 [(0, vR (some a0)), (1, vI x1)] [] G r := by
  refine wk_aload_n 0 dJ5_grow_2_45 rfl rfl ?_
  refine wk_bipush (10 : Int32) dJ5_grow_2_46 (by decide) ?_
  refine wk_iload_n 1 dJ5_grow_2_48 rfl rfl ?_
  refine wk_mmax q1473 q595 q132 q596 (Nat.le_of_ble_eq_true rfl) hdp dJ5_grow_2_49 ?_
  exact (wk_sub [] trivial k)
theorem blJ5_grow_2_52 {w : WD} {j : JB} {r : Nat} {G : GH} {s0 : Option Nat} {s1 : Int32}
    (hn : ¬ s1 < 0)
    (hb : s1.toNatClampNeg ≤ 67108864)
    (hr : 1 + s1.toNatClampNeg / 12 ≤ r)
    (k : ∀ q, hp_kd G q = 0 → hp_A w q → wk_V w mJ5_grow_2 j 55 [] [vR (some q), vR s0] (hp_nw G q 32 s1.toNatClampNeg) (r - (1 + s1.toNatClampNeg / 12)))
    : wk_V w mJ5_grow_2 j 52 [] [vI s1, vR s0] G r := by
  refine wk_newq 32 "java/lang/Object" rfl ⟨by decide, by decide⟩ q1474 (by decide +kernel) hn hb hr dJ5_grow_2_52 (fun q h1 h2 => ?_)
  exact (k q h1 h2)
theorem blJ5_grow_2_55 {w : WD} {j : JB} {r : Nat} {G : GH} {s0 : Option Nat} {sa1 : Option Nat} {o1 : Nat}
    (e1 : s0 = some o1)
    (hk2 : hp_kd G o1 = 22)
    (hA3 : hp_A w o1)
    (hP : j.2.2.1 (some (vR sa1)) (hp_sR G o1 0 sa1))
    : wk_V w mJ5_grow_2 j 55 [] [vR sa1, vR s0] G r := by
  refine wk_dup_x1 dJ5_grow_2_55 rfl rfl ?_
  refine wk_e2 e1 ?_
  refine wk_putR 22 0 flJ5_9 rfl (Or.inl rfl) hk2 hA3 dJ5_grow_2_56 ?_
  exact wk_areturn rfl (Or.inr ⟨_, rfl⟩) dJ5_grow_2_59 hP
/-! java/util/ArrayList.<init>()V -/
theorem blJ5_init_0 {w : WD} {j : JB} {r : Nat} {G : GH} {a0 : Nat} {d' b' : Nat} {P : Option WV → GH → Prop} {PX : String → Nat → GH → Prop}
    (hC : wk_C w mJ4_init d' b' [vR (some a0)] G P PX)
    (hdp : d' + 1 ≤ j.1)
    (hb : b' ≤ r)
    (kr : ∀ v G', P v G' → wk_V w mJ5_init j 4 [(0, vR (some a0))] (v.toList ++ []) G' (r - b'))
    (kx : ∀ E q G', PX E q G' → wk_T w mJ5_init j 1 [(0, vR (some a0))] G' (r - b') E q)
    : wk_V w mJ5_init j 0 [(0, vR (some a0))] [] G r := by
  refine wk_aload_n 0 dJ5_init_0 rfl rfl ?_
  exact wk_callI hC rfl rfl rfl q260 q261 q116 q262 mdJ4_init (Nat.le_of_ble_eq_true rfl) rfl rfl (Nat.le_of_ble_eq_true rfl) hdp hb dJ5_init_1 kr kx
theorem blJ5_init_4 {w : WD} {j : JB} {r : Nat} {G : GH} {a0 : Nat}
    (hk1 : hp_kd G a0 = 22)
    (hA2 : hp_A w a0)
    (hP : j.2.2.1 none (hp_sR G a0 0 (hp_sv w "java/util/ArrayList" "DEFAULTCAPACITY_EMPTY_ELEMENTDATA")))
    : wk_V w mJ5_init j 4 [(0, vR (some a0))] [] G r := by
  refine wk_aload_n 0 dJ5_init_4 rfl rfl ?_
  refine wk_getsR (C := "java/util/ArrayList") (n := "DEFAULTCAPACITY_EMPTY_ELEMENTDATA") (d := "[Ljava/lang/Object;") (by decide +kernel) q267 dJ5_init_5 ?_
  refine wk_putR 22 0 flJ5_9 rfl (Or.inl rfl) hk1 hA2 dJ5_init_8 ?_
  exact wk_return rfl dJ5_init_11 hP
/-! java/util/ArrayList.size()I -/
theorem blJ5_size_0 {w : WD} {j : JB} {r : Nat} {G : GH} {a0 : Nat}
    (hk1 : hp_kd G a0 = 22)
    (hP : j.2.2.1 (some (vI (hp_i G a0 1))) G)
    : wk_V w mJ5_size j 0 [(0, vR (some a0))] [] G r := by
  refine wk_aload_n 0 dJ5_size_0 rfl rfl ?_
  refine wk_getI 22 1 flJ5_48 rfl hk1 dJ5_size_1 ?_
  exact wk_ireturn rfl rfl dJ5_size_4 hP
/-! java/util/AbstractMap.<init>()V -/
theorem blJ6_init_0 {w : WD} {j : JB} {r : Nat} {G : GH} {a0 : Nat}
    (hdp : 1 ≤ j.1)
    (k : wk_V w mJ6_init j 4 [] [] G r)
    : wk_V w mJ6_init j 0 [(0, vR (some a0))] [] G r := by
  refine wk_aload_n 0 dJ6_init_0 rfl rfl ?_
  exact wk_objInit q289 q171 q172 (by decide) hdp dJ6_init_1 (wk_sub [] trivial k)
theorem blJ6_init_4 {w : WD} {j : JB} {r : Nat} {G : GH}
    (hP : j.2.2.1 none G)
    : wk_V w mJ6_init j 4 [] [] G r := by
  exact wk_return rfl dJ6_init_4 hP
/-! java/util/HashMap.afterNodeAccess(Ljava/util/HashMap$Node;)V -/
theorem blJ7_afterNodeAccess_0 {w : WD} {j : JB} {r : Nat} {G : GH}
    (hP : j.2.2.1 none G)
    : wk_V w mJ7_afterNodeAccess j 0 [] [] G r := by
  exact wk_return rfl dJ7_afterNodeAccess_0 hP
/-! java/util/HashMap.afterNodeInsertion(Z)V -/
theorem blJ7_afterNodeInsertion_0 {w : WD} {j : JB} {r : Nat} {G : GH}
    (hP : j.2.2.1 none G)
    : wk_V w mJ7_afterNodeInsertion j 0 [] [] G r := by
  exact wk_return rfl dJ7_afterNodeInsertion_0 hP
/-! java/util/HashMap.clear()V -/
theorem blJ7_clear_0 {w : WD} {j : JB} {r : Nat} {G : GH} {a0 : Nat}
    (hk1 : hp_kd G a0 = 23)
    (hA3 : hp_A w a0)
    (kt : (hp_r G a0 2) = none → wk_V w mJ7_clear j 49 [] [] (hp_sI G a0 5 ((hp_i G a0 5) + (1 : Int32))) r)
    (kf : ∀ o9, (hp_r G a0 2) = some o9 → wk_V w mJ7_clear j 19 [(0, vR (some a0)), (1, vR (hp_r G a0 2))] [] (hp_sI G a0 5 ((hp_i G a0 5) + (1 : Int32))) r)
    : wk_V w mJ7_clear j 0 [(0, vR (some a0))] [] G r := by
  refine wk_aload_n 0 dJ7_clear_0 rfl rfl ?_
  refine wk_dup dJ7_clear_1 rfl ?_
  refine wk_getI 23 5 flJ7_202 rfl hk1 dJ7_clear_2 ?_
  refine wk_iconst (1 : Int32) dJ7_clear_5 (by decide) ?_
  refine wk_iadd dJ7_clear_6 ?_
  refine wk_putI 23 5 flJ7_202 rfl (Or.inl rfl) hk1 hA3 ⟨rfl, rfl⟩ dJ7_clear_7 ?_
  refine wk_aload_n 0 dJ7_clear_10 rfl rfl ?_
  refine wk_getR 23 2 flJ7_105 rfl hk1 dJ7_clear_11 ?_
  refine wk_dup dJ7_clear_14 rfl ?_
  refine wk_astore_n 1 dJ7_clear_15 rfl (Nat.le_of_ble_eq_true rfl) ?_
  exact wk_ifnull 49 dJ7_clear_16 (by decide) (fun h => (wk_sub [] trivial (kt h))) (fun o9 h => (kf o9 h))
theorem blJ7_clear_19 {w : WD} {j : JB} {r : Nat} {G : GH} {a0 : Nat} {a1 : Option Nat}
    (hk1 : hp_kd G a0 = 23)
    (kt : (hp_i G a0 4) ≤ 0 → wk_V w mJ7_clear j 49 [] [] G r)
    (kf : ¬ ((hp_i G a0 4) ≤ 0) → wk_V w mJ7_clear j 26 [(0, vR (some a0)), (1, vR a1)] [] G r)
    : wk_V w mJ7_clear j 19 [(0, vR (some a0)), (1, vR a1)] [] G r := by
  refine wk_aload_n 0 dJ7_clear_19 rfl rfl ?_
  refine wk_getI 23 4 flJ7_156 rfl hk1 dJ7_clear_20 ?_
  exact wk_if_le 49 dJ7_clear_23 (by decide) (fun h => (wk_sub [] trivial (kt h))) (fun h => (kf h))
theorem blJ7_clear_26 {w : WD} {j : JB} {r : Nat} {G : GH} {a0 : Nat} {a1 : Option Nat}
    (hk1 : hp_kd G a0 = 23)
    (hA2 : hp_A w a0)
    (k : wk_V w mJ7_clear j 33 [(1, vR a1), (2, vI (0 : Int32))] [] (hp_sI G a0 4 (0 : Int32)) r)
    : wk_V w mJ7_clear j 26 [(0, vR (some a0)), (1, vR a1)] [] G r := by
  refine wk_aload_n 0 dJ7_clear_26 rfl rfl ?_
  refine wk_iconst (0 : Int32) dJ7_clear_27 (by decide) ?_
  refine wk_putI 23 4 flJ7_156 rfl (Or.inl rfl) hk1 hA2 ⟨rfl, rfl⟩ dJ7_clear_28 ?_
  refine wk_iconst (0 : Int32) dJ7_clear_31 (by decide) ?_
  refine wk_istore_n 2 dJ7_clear_32 rfl (Nat.le_of_ble_eq_true rfl) ?_
  exact (wk_sub [(1, vR a1), (2, vI (0 : Int32))] ⟨rfl, rfl, trivial⟩ k)
theorem blJ7_clear_33 {w : WD} {j : JB} {r : Nat} {G : GH} {a1 : Option Nat} {x2 : Int32} {o1 : Nat}
    (e1 : a1 = some o1)
    (hk2 : 28 ≤ hp_kd G o1)
    (kt : (nI (hp_ln G o1)) ≤ x2 → wk_V w mJ7_clear j 49 [] [] G r)
    (kf : ¬ ((nI (hp_ln G o1)) ≤ x2) → wk_V w mJ7_clear j 39 [(1, vR a1), (2, vI x2)] [] G r)
    : wk_V w mJ7_clear j 33 [(1, vR a1), (2, vI x2)] [] G r := by
  refine wk_iload_n 2 dJ7_clear_33 rfl rfl ?_
  refine wk_aload_n 1 dJ7_clear_34 rfl rfl ?_
  refine wk_e e1 ?_
  refine wk_alen hk2 dJ7_clear_35 ?_
  exact wk_icmp_ge 49 dJ7_clear_36 (by decide) (fun h => (wk_sub [] trivial (kt h))) (fun h => (kf h))
theorem blJ7_clear_39 {w : WD} {j : JB} {r : Nat} {G : GH} {a1 : Option Nat} {x2 : Int32} {o1 : Nat} {T5 : String}
    (e1 : a1 = some o1)
    (hi2 : vp_in x2 (hp_ln G o1))
    (hA3 : hp_A w o1)
    (hk4 : 32 ≤ hp_kd G o1)
    (hT6 : hp_at (hp_kd G o1) = .object T5)
    (hx7 : ∀ b, none = some b → hp_kd G b ≠ 0 ∧ hp_kd G b < 28 ∧ hp_sub (hp_kd G b) T5)
    (k : wk_V w mJ7_clear j 33 [(1, vR a1), (2, vI (x2 + (1 : Int32)))] [] (hp_sR G o1 x2.toNatClampNeg none) r)
    : wk_V w mJ7_clear j 39 [(1, vR a1), (2, vI x2)] [] G r := by
  refine wk_aload_n 1 dJ7_clear_39 rfl rfl ?_
  refine wk_iload_n 2 dJ7_clear_40 rfl rfl ?_
  refine wk_null dJ7_clear_41 ?_
  refine wk_e3 e1 ?_
  refine wk_aast hk4 hT6 hA3 hi2 hx7 dJ7_clear_42 ?_
  refine wk_iincC (1 : Int32) dJ7_clear_43 rfl (by decide) (Nat.le_of_ble_eq_true rfl) ?_
  exact wk_goto 33 dJ7_clear_46 (by decide) k
theorem blJ7_clear_49 {w : WD} {j : JB} {r : Nat} {G : GH}
    (hP : j.2.2.1 none G)
    : wk_V w mJ7_clear j 49 [] [] G r := by
  exact wk_return rfl dJ7_clear_49 hP
/-! java/util/HashMap.comparableClassFor(Ljava/lang/Object;)Ljava/lang/Class; -/
theorem blJ7_comparableClassFor_0 {w : WD} {j : JB} {r : Nat} {G : GH} {a0 : Option Nat} {v1 : Int32}
    (hc2 : hp_inst G a0 "java/lang/Comparable" v1)
    (kt : v1 = 0 → wk_V w mJ7_comparableClassFor j 113 [] [] G r)
    (kf : ¬ (v1 = 0) → wk_V w mJ7_comparableClassFor j 7 [(0, vR a0)] [] G r)
    : wk_V w mJ7_comparableClassFor j 0 [(0, vR a0)] [] G r := by
  refine wk_aload_n 0 dJ7_comparableClassFor_0 rfl rfl ?_
  refine wk_instQ q1099 hc2 dJ7_comparableClassFor_1 ?_
  exact wk_if_eq 113 dJ7_comparableClassFor_4 (by decide) (fun h => (wk_sub [] trivial (kt h))) (fun h => (kf h))
theorem blJ7_comparableClassFor_7_26 {w : WD} {j : JB} {r : Nat} {G : GH} {a0 : Option Nat} {o1 : Nat}
    (e1 : a0 = some o1)
    (hdp : 1 ≤ j.1)
    (hk9 : hp_kd G o1 = 26)
    (k : wk_V w mJ7_comparableClassFor j 11 [] [vR (some (hp_mi w "java/lang/String"))] G r)
    : wk_V w mJ7_comparableClassFor j 7 [(0, vR a0)] [] G r := by
  refine wk_aload_n 0 dJ7_comparableClassFor_7 rfl rfl ?_
  refine wk_e e1 ?_
  exact wk_getCS hk9 q1100 q1128 q1101 q1137 (Nat.le_of_ble_eq_true rfl) hdp dJ7_comparableClassFor_8 (wk_sub [] trivial k)
theorem blJ7_comparableClassFor_7_32 {w : WD} {j : JB} {r : Nat} {G : GH} {a0 : Option Nat} {o1 : Nat}
    (e1 : a0 = some o1)
    (hdp : 1 ≤ j.1)
    (hk9 : hp_kd G o1 = 32)
    (k : wk_V w mJ7_comparableClassFor j 11 [] [vR (some (hp_mi w "[Ljava/lang/Object;"))] G r)
    : wk_V w mJ7_comparableClassFor j 7 [(0, vR a0)] [] G r := by
  refine wk_aload_n 0 dJ7_comparableClassFor_7 rfl rfl ?_
  refine wk_e e1 ?_
  exact wk_getCA hk9 q1100 q3282 q1101 q1137 (Nat.le_of_ble_eq_true rfl) hdp dJ7_comparableClassFor_8 (wk_sub [] trivial k)
theorem blJ7_comparableClassFor_11 {w : WD} {j : JB} {r : Nat} {G : GH} {sa0 : Option Nat}
    (kt : ¬ (sa0 = (some (hp_mi w "java/lang/String"))) → wk_V w mJ7_comparableClassFor j 20 [(1, vR sa0)] [] G r)
    (kf : sa0 = (some (hp_mi w "java/lang/String")) → wk_V w mJ7_comparableClassFor j 18 [(1, vR sa0)] [] G r)
    : wk_V w mJ7_comparableClassFor j 11 [] [vR sa0] G r := by
  refine wk_dup dJ7_comparableClassFor_11 rfl ?_
  refine wk_astore_n 1 dJ7_comparableClassFor_12 rfl (Nat.le_of_ble_eq_true rfl) ?_
  refine wk_ldcC (C := "java/lang/String") (by decide) q1138 dJ7_comparableClassFor_13 ?_
  exact wk_acmp_ne 20 dJ7_comparableClassFor_15 (by decide) (fun h => (kt h)) (fun h => (kf h))
theorem blJ7_comparableClassFor_18 {w : WD} {j : JB} {r : Nat} {G : GH} {a1 : Option Nat}
    (hP : j.2.2.1 (some (vR a1)) G)
    : wk_V w mJ7_comparableClassFor j 18 [(1, vR a1)] [] G r := by
  refine wk_aload_n 1 dJ7_comparableClassFor_18 rfl rfl ?_
  exact wk_areturn rfl (Or.inl ⟨_, rfl⟩) dJ7_comparableClassFor_19 hP
-- blJ7_comparableClassFor_20: left out (call without a link)
theorem blJ7_comparableClassFor_113 {w : WD} {j : JB} {r : Nat} {G : GH}
    (hP : j.2.2.1 (some (vR none)) G)
    : wk_V w mJ7_comparableClassFor j 113 [] [] G r := by
  refine wk_null dJ7_comparableClassFor_113 ?_
  exact wk_areturn rfl (Or.inl ⟨_, rfl⟩) dJ7_comparableClassFor_114 hP
/-! java/util/HashMap.compareComparables(Ljava/lang/Class;Ljava/lang/Object;Ljava/lang/Object;)I -/
theorem blJ7_compareComparables_0 {w : WD} {j : JB} {r : Nat} {G : GH} {a0 : Option Nat} {a1 : Option Nat} {a2 : Option Nat}
    (kt : a2 = none → wk_V w mJ7_compareComparables j 12 [] [] G r)
    (kf : ∀ o9, a2 = some o9 → wk_V w mJ7_compareComparables j 4 [(0, vR a0), (1, vR a1), (2, vR a2)] [] G r)
    : wk_V w mJ7_compareComparables j 0 [(0, vR a0), (1, vR a1), (2, vR a2)] [] G r := by
  refine wk_aload_n 2 dJ7_compareComparables_0 rfl rfl ?_
  exact wk_ifnull 12 dJ7_compareComparables_1 (by decide) (fun h => (wk_sub [] trivial (kt h))) (fun o9 h => (kf o9 h))
theorem blJ7_compareComparables_4_26 {w : WD} {j : JB} {r : Nat} {G : GH} {a0 : Option Nat} {a1 : Option Nat} {a2 : Option Nat} {o1 : Nat}
    (e1 : a2 = some o1)
    (hdp : 1 ≤ j.1)
    (hk9 : hp_kd G o1 = 26)
    (k : wk_V w mJ7_compareComparables j 8 [(0, vR a0), (1, vR a1), (2, vR a2)] [vR (some (hp_mi w "java/lang/String"))] G r)
    : wk_V w mJ7_compareComparables j 4 [(0, vR a0), (1, vR a1), (2, vR a2)] [] G r := by
  refine wk_aload_n 2 dJ7_compareComparables_4 rfl rfl ?_
  refine wk_e e1 ?_
  exact wk_getCS hk9 q1100 q1128 q1101 q1137 (Nat.le_of_ble_eq_true rfl) hdp dJ7_compareComparables_5 k
theorem blJ7_compareComparables_4_32 {w : WD} {j : JB} {r : Nat} {G : GH} {a0 : Option Nat} {a1 : Option Nat} {a2 : Option Nat} {o1 : Nat}
    (e1 : a2 = some o1)
    (hdp : 1 ≤ j.1)
    (hk9 : hp_kd G o1 = 32)
    (k : wk_V w mJ7_compareComparables j 8 [(0, vR a0), (1, vR a1), (2, vR a2)] [vR (some (hp_mi w "[Ljava/lang/Object;"))] G r)
    : wk_V w mJ7_compareComparables j 4 [(0, vR a0), (1, vR a1), (2, vR a2)] [] G r := by
  refine wk_aload_n 2 dJ7_compareComparables_4 rfl rfl ?_
  refine wk_e e1 ?_
  exact wk_getCA hk9 q1100 q3282 q1101 q1137 (Nat.le_of_ble_eq_true rfl) hdp dJ7_compareComparables_5 k
theorem blJ7_compareComparables_8 {w : WD} {j : JB} {r : Nat} {G : GH} {a0 : Option Nat} {a1 : Option Nat} {a2 : Option Nat} {sa0 : Option Nat}
    (kt : sa0 = a0 → wk_V w mJ7_compareComparables j 16 [(1, vR a1), (2, vR a2)] [] G r)
    (kf : ¬ (sa0 = a0) → wk_V w mJ7_compareComparables j 12 [] [] G r)
    : wk_V w mJ7_compareComparables j 8 [(0, vR a0), (1, vR a1), (2, vR a2)] [vR sa0] G r := by
  refine wk_aload_n 0 dJ7_compareComparables_8 rfl rfl ?_
  exact wk_acmp_eq 16 dJ7_compareComparables_9 (by decide) (fun h => (wk_sub [(1, vR a1), (2, vR a2)] ⟨rfl, rfl, trivial⟩ (kt h))) (fun h => (wk_sub [] trivial (kf h)))
theorem blJ7_compareComparables_12 {w : WD} {j : JB} {r : Nat} {G : GH}
    (k : wk_V w mJ7_compareComparables j 26 [] [vI (0 : Int32)] G r)
    : wk_V w mJ7_compareComparables j 12 [] [] G r := by
  refine wk_iconst (0 : Int32) dJ7_compareComparables_12 (by decide) ?_
  exact wk_goto 26 dJ7_compareComparables_13 (by decide) k
theorem blJ7_compareComparables_16 {w : WD} {j : JB} {r : Nat} {G : GH} {a1 : Option Nat} {a2 : Option Nat} {o2 : Nat} {d' b' : Nat} {P : Option WV → GH → Prop} {PX : String → Nat → GH → Prop}
    (hc1 : ∀ a, a1 = some a → hp_kd G a ≠ 0 ∧ hp_kd G a < 28 ∧ hp_sub (hp_kd G a) "java/lang/Comparable")
    (e2 : a1 = some o2)
    (hkr : hp_kd G o2 = 26)
    (hC : wk_C w mJ13_compareTo d' b' [vR (some o2), vR a2] G P PX)
    (hdp : d' + 1 ≤ j.1)
    (hb : b' ≤ r)
    (kr : ∀ v G', P v G' → wk_V w mJ7_compareComparables j 26 [] (v.toList ++ []) G' (r - b'))
    (kx : ∀ E q G', PX E q G' → wk_T w mJ7_compareComparables j 21 [(1, vR a1), (2, vR a2)] G' (r - b') E q)
    : wk_V w mJ7_compareComparables j 16 [(1, vR a1), (2, vR a2)] [] G r := by
  refine wk_aload_n 1 dJ7_compareComparables_16 rfl rfl ?_
  refine wk_castQ q1099 hc1 dJ7_compareComparables_17 ?_
  refine wk_aload_n 2 dJ7_compareComparables_20 rfl rfl ?_
  refine wk_eAt 1 e2 rfl ?_
  exact wk_callF (n := 1) (x := ⟨"java/lang/Comparable", "compareTo", "(Ljava/lang/Object;)I"⟩) hC rfl (by show (hp_C (hp_kd G o2), _, _) ∈ hp_fwL; rw [hkr]; decide +kernel) q1143 q1172 (by show Cond.selects (hp_C (hp_kd G o2)) _ _ ∈ lw_all; rw [hkr]; exact q1170) q129 q1174 ⟨by decide, by decide, by decide +kernel⟩ (Nat.le_of_ble_eq_true rfl) ⟨by show hp_kd G o2 ≠ 0; rw [hkr]; decide, by show hp_kd G o2 < 28; rw [hkr]; decide⟩ rfl rfl (Nat.le_of_ble_eq_true rfl) hdp hb dJ7_compareComparables_21 (fun v G' h => (wk_sub [] trivial (kr v G' h))) kx
theorem blJ7_compareComparables_26 {w : WD} {j : JB} {r : Nat} {G : GH} {s0 : Int32}
    (hP : j.2.2.1 (some (vI s0)) G)
    : wk_V w mJ7_compareComparables j 26 [] [vI s0] G r := by
  exact wk_ireturn rfl rfl dJ7_compareComparables_26 hP
/-! java/util/HashMap.get(Ljava/lang/Object;)Ljava/lang/Object; -/
theorem blJ7_get_0 {w : WD} {j : JB} {r : Nat} {G : GH} {a0 : Nat} {a1 : Option Nat} {d' b' : Nat} {P : Option WV → GH → Prop} {PX : String → Nat → GH → Prop}
    (hkr : hp_kd G a0 = 23)
    (hC : wk_C w mJ7_getNode d' b' [vR (some a0), vR a1] G P PX)
    (hdp : d' + 1 ≤ j.1)
    (hb : b' ≤ r)
    (kr : ∀ v G', P v G' → wk_V w mJ7_get j 5 [] (v.toList ++ []) G' (r - b'))
    (kx : ∀ E q G', PX E q G' → wk_T w mJ7_get j 2 [(0, vR (some a0)), (1, vR a1)] G' (r - b') E q)
    : wk_V w mJ7_get j 0 [(0, vR (some a0)), (1, vR a1)] [] G r := by
  refine wk_aload_n 0 dJ7_get_0 rfl rfl ?_
  refine wk_aload_n 1 dJ7_get_1 rfl rfl ?_
  exact wk_callV hC rfl q1000 q1001 q1002 q119 q1003 mdJ7_getNode (Nat.le_of_ble_eq_true rfl) ⟨by show hp_kd G a0 ≠ 0; rw [hkr]; decide, by show hp_kd G a0 < 28; rw [hkr]; decide, by show hp_C (hp_kd G a0) = _; rw [hkr]; rfl⟩ rfl rfl (Nat.le_of_ble_eq_true rfl) hdp hb dJ7_get_2 (fun v G' h => (wk_sub [] trivial (kr v G' h))) kx
theorem blJ7_get_5 {w : WD} {j : JB} {r : Nat} {G : GH} {sa0 : Option Nat}
    (kt : ∀ o9, sa0 = some o9 → wk_V w mJ7_get j 14 [(2, vR sa0)] [] G r)
    (kf : sa0 = none → wk_V w mJ7_get j 10 [] [] G r)
    : wk_V w mJ7_get j 5 [] [vR sa0] G r := by
  refine wk_dup dJ7_get_5 rfl ?_
  refine wk_astore_n 2 dJ7_get_6 rfl (Nat.le_of_ble_eq_true rfl) ?_
  exact wk_ifnonnull 14 dJ7_get_7 (by decide) (fun o9 h => (kt o9 h)) (fun h => (wk_sub [] trivial (kf h)))
theorem blJ7_get_10 {w : WD} {j : JB} {r : Nat} {G : GH}
    (k : wk_V w mJ7_get j 18 [] [vR none] G r)
    : wk_V w mJ7_get j 10 [] [] G r := by
  refine wk_null dJ7_get_10 ?_
  exact wk_goto 18 dJ7_get_11 (by decide) k
theorem blJ7_get_14 {w : WD} {j : JB} {r : Nat} {G : GH} {a2 : Option Nat} {o1 : Nat}
    (e1 : a2 = some o1)
    (hk2 : 24 ≤ hp_kd G o1 ∧ hp_kd G o1 ≤ 25)
    (k : wk_V w mJ7_get j 18 [] [vR (hp_r G o1 2)] G r)
    : wk_V w mJ7_get j 14 [(2, vR a2)] [] G r := by
  refine wk_aload_n 2 dJ7_get_14 rfl rfl ?_
  refine wk_e e1 ?_
  refine wk_getR (hp_kd G o1) 2 (flJ7_162 _ hk2.1 hk2.2) (flJ7_162_t _ hk2.1 hk2.2).1 rfl dJ7_get_15 ?_
  exact (wk_sub [] trivial k)
theorem blJ7_get_18 {w : WD} {j : JB} {r : Nat} {G : GH} {sa0 : Option Nat}
    (hP : j.2.2.1 (some (vR sa0)) G)
    : wk_V w mJ7_get j 18 [] [vR sa0] G r := by
  exact wk_areturn rfl (Or.inl ⟨_, rfl⟩) dJ7_get_18 hP
/-! java/util/HashMap.getNode(Ljava/lang/Object;)Ljava/util/HashMap$Node; -/
theorem blJ7_getNode_0 {w : WD} {j : JB} {r : Nat} {G : GH} {a0 : Nat} {a1 : Option Nat}
    (hk1 : hp_kd G a0 = 23)
    (kt : (hp_r G a0 2) = none → wk_V w mJ7_getNode j 148 [] [] G r)
    (kf : ∀ o9, (hp_r G a0 2) = some o9 → wk_V w mJ7_getNode j 9 [(1, vR a1), (2, vR (hp_r G a0 2))] [] G r)
    : wk_V w mJ7_getNode j 0 [(0, vR (some a0)), (1, vR a1)] [] G r := by
  refine wk_aload_n 0 dJ7_getNode_0 rfl rfl ?_
  refine wk_getR 23 2 flJ7_105 rfl hk1 dJ7_getNode_1 ?_
  refine wk_dup dJ7_getNode_4 rfl ?_
  refine wk_astore_n 2 dJ7_getNode_5 rfl (Nat.le_of_ble_eq_true rfl) ?_
  exact wk_ifnull 148 dJ7_getNode_6 (by decide) (fun h => (wk_sub [] trivial (kt h))) (fun o9 h => (wk_sub [(1, vR a1), (2, vR (hp_r G a0 2))] ⟨rfl, rfl, trivial⟩ (kf o9 h)))
theorem blJ7_getNode_9 {w : WD} {j : JB} {r : Nat} {G : GH} {a1 : Option Nat} {a2 : Option Nat} {o1 : Nat}
    (e1 : a2 = some o1)
    (hk2 : 28 ≤ hp_kd G o1)
    (kt : (nI (hp_ln G o1)) ≤ 0 → wk_V w mJ7_getNode j 148 [] [] G r)
    (kf : ¬ ((nI (hp_ln G o1)) ≤ 0) → wk_V w mJ7_getNode j 17 [(1, vR a1), (2, vR a2), (5, vI (nI (hp_ln G o1)))] [] G r)
    : wk_V w mJ7_getNode j 9 [(1, vR a1), (2, vR a2)] [] G r := by
  refine wk_aload_n 2 dJ7_getNode_9 rfl rfl ?_
  refine wk_e e1 ?_
  refine wk_alen hk2 dJ7_getNode_10 ?_
  refine wk_dup dJ7_getNode_11 rfl ?_
  refine wk_istore dJ7_getNode_12 (Nat.le_of_ble_eq_true rfl) ?_
  exact wk_if_le 148 dJ7_getNode_14 (by decide) (fun h => (wk_sub [] trivial (kt h))) (fun h => (kf h))
theorem blJ7_getNode_17 {w : WD} {j : JB} {r : Nat} {G : GH} {a1 : Option Nat} {a2 : Option Nat} {x5 : Int32} {d' b' : Nat} {P : Option WV → GH → Prop} {PX : String → Nat → GH → Prop}
    (hC : wk_C w mJ7_hash d' b' [vR a1] G P PX)
    (hdp : d' + 1 ≤ j.1)
    (hb : b' ≤ r)
    (kr : ∀ v G', P v G' → wk_V w mJ7_getNode j 26 [(1, vR a1)] (v.toList ++ [vI (x5 - (1 : Int32)), vR a2]) G' (r - b'))
    (kx : ∀ E q G', PX E q G' → wk_T w mJ7_getNode j 23 [(1, vR a1), (2, vR a2), (5, vI x5)] G' (r - b') E q)
    : wk_V w mJ7_getNode j 17 [(1, vR a1), (2, vR a2), (5, vI x5)] [] G r := by
  refine wk_aload_n 2 dJ7_getNode_17 rfl rfl ?_
  refine wk_iload dJ7_getNode_18 rfl ?_
  refine wk_iconst (1 : Int32) dJ7_getNode_20 (by decide) ?_
  refine wk_isub dJ7_getNode_21 ?_
  refine wk_aload_n 1 dJ7_getNode_22 rfl rfl ?_
  exact wk_callS hC rfl q1004 q1005 q119 q1006 mdJ7_hash (Nat.le_of_ble_eq_true rfl) rfl rfl (Nat.le_of_ble_eq_true rfl) hdp hb dJ7_getNode_23 (fun v G' h => (wk_sub [(1, vR a1)] ⟨rfl, trivial⟩ (kr v G' h))) kx
theorem blJ7_getNode_26 {w : WD} {j : JB} {r : Nat} {G : GH} {a1 : Option Nat} {sa0 : Option Nat} {s1 : Int32} {s2 : Int32} {o1 : Nat}
    (e1 : sa0 = some o1)
    (hi2 : vp_in (s1 &&& s2) (hp_ln G o1))
    (hk3 : 32 ≤ hp_kd G o1)
    (kt : (hp_r G o1 (s1 &&& s2).toNatClampNeg) = none → wk_V w mJ7_getNode j 148 [] [] G r)
    (kf : ∀ o9, (hp_r G o1 (s1 &&& s2).toNatClampNeg) = some o9 → wk_V w mJ7_getNode j 36 [(1, vR a1), (3, vR (hp_r G o1 (s1 &&& s2).toNatClampNeg)), (6, vI s2)] [] G r)
    : wk_V w mJ7_getNode j 26 [(1, vR a1)] [vI s2, vI s1, vR sa0] G r := by
  refine wk_dup dJ7_getNode_26 rfl ?_
  refine wk_istore dJ7_getNode_27 (Nat.le_of_ble_eq_true rfl) ?_
  refine wk_iand dJ7_getNode_29 ?_
  refine wk_e2 e1 ?_
  refine wk_aald hk3 hi2 dJ7_getNode_30 ?_
  refine wk_dup dJ7_getNode_31 rfl ?_
  refine wk_astore_n 3 dJ7_getNode_32 rfl (Nat.le_of_ble_eq_true rfl) ?_
  exact wk_ifnull 148 dJ7_getNode_33 (by decide) (fun h => (wk_sub [] trivial (kt h))) (fun o9 h => (kf o9 h))
theorem blJ7_getNode_36 {w : WD} {j : JB} {r : Nat} {G : GH} {a1 : Option Nat} {a3 : Option Nat} {x6 : Int32} {o1 : Nat}
    (e1 : a3 = some o1)
    (hk2 : 24 ≤ hp_kd G o1 ∧ hp_kd G o1 ≤ 25)
    (kt : ¬ ((hp_i G o1 0) = x6) → wk_V w mJ7_getNode j 71 [(1, vR a1), (3, vR a3), (6, vI x6)] [] G r)
    (kf : (hp_i G o1 0) = x6 → wk_V w mJ7_getNode j 45 [(1, vR a1), (3, vR a3), (6, vI x6)] [] G r)
    : wk_V w mJ7_getNode j 36 [(1, vR a1), (3, vR a3), (6, vI x6)] [] G r := by
  refine wk_aload_n 3 dJ7_getNode_36 rfl rfl ?_
  refine wk_e e1 ?_
  refine wk_getI (hp_kd G o1) 0 (flJ7_168 _ hk2.1 hk2.2) (flJ7_168_t _ hk2.1 hk2.2).1 rfl dJ7_getNode_37 ?_
  refine wk_iload dJ7_getNode_40 rfl ?_
  exact wk_icmp_ne 71 dJ7_getNode_42 (by decide) (fun h => (kt h)) (fun h => (kf h))
theorem blJ7_getNode_45 {w : WD} {j : JB} {r : Nat} {G : GH} {a1 : Option Nat} {a3 : Option Nat} {x6 : Int32} {o1 : Nat}
    (e1 : a3 = some o1)
    (hk2 : 24 ≤ hp_kd G o1 ∧ hp_kd G o1 ≤ 25)
    (kt : (hp_r G o1 1) = a1 → wk_V w mJ7_getNode j 69 [(3, vR a3)] [] G r)
    (kf : ¬ ((hp_r G o1 1) = a1) → wk_V w mJ7_getNode j 56 [(1, vR a1), (3, vR a3), (6, vI x6), (7, vR (hp_r G o1 1))] [] G r)
    : wk_V w mJ7_getNode j 45 [(1, vR a1), (3, vR a3), (6, vI x6)] [] G r := by
  refine wk_aload_n 3 dJ7_getNode_45 rfl rfl ?_
  refine wk_e e1 ?_
  refine wk_getR (hp_kd G o1) 1 (flJ7_170 _ hk2.1 hk2.2) (flJ7_170_t _ hk2.1 hk2.2).1 rfl dJ7_getNode_46 ?_
  refine wk_dup dJ7_getNode_49 rfl ?_
  refine wk_astore dJ7_getNode_50 (Nat.le_of_ble_eq_true rfl) ?_
  refine wk_aload_n 1 dJ7_getNode_52 rfl rfl ?_
  exact wk_acmp_eq 69 dJ7_getNode_53 (by decide) (fun h => (wk_sub [(3, vR a3)] ⟨rfl, trivial⟩ (kt h))) (fun h => (kf h))
theorem blJ7_getNode_56 {w : WD} {j : JB} {r : Nat} {G : GH} {a1 : Option Nat} {a3 : Option Nat} {x6 : Int32} {a7 : Option Nat}
    (kt : a1 = none → wk_V w mJ7_getNode j 71 [(1, vR a1), (3, vR a3), (6, vI x6)] [] G r)
    (kf : ∀ o9, a1 = some o9 → wk_V w mJ7_getNode j 60 [(1, vR a1), (3, vR a3), (6, vI x6), (7, vR a7)] [] G r)
    : wk_V w mJ7_getNode j 56 [(1, vR a1), (3, vR a3), (6, vI x6), (7, vR a7)] [] G r := by
  refine wk_aload_n 1 dJ7_getNode_56 rfl rfl ?_
  exact wk_ifnull 71 dJ7_getNode_57 (by decide) (fun h => (wk_sub [(1, vR a1), (3, vR a3), (6, vI x6)] ⟨rfl, rfl, rfl, trivial⟩ (kt h))) (fun o9 h => (kf o9 h))
theorem blJ7_getNode_60_k2 {w : WD} {j : JB} {r : Nat} {G : GH} {a1 : Option Nat} {a3 : Option Nat} {x6 : Int32} {a7 : Option Nat} {o1 : Nat} {d' b' : Nat} {P : Option WV → GH → Prop} {PX : String → Nat → GH → Prop}
    (e1 : a1 = some o1)
    (hkr : hp_kd G o1 = 2)
    (hC : wk_C w mJ28_equals d' b' [vR (some o1), vR a7] G P PX)
    (hdp : d' + 1 ≤ j.1)
    (hb : b' ≤ r)
    (kr : ∀ v G', P v G' → wk_V w mJ7_getNode j 66 [(1, vR a1), (3, vR a3), (6, vI x6)] (v.toList ++ []) G' (r - b'))
    (kx : ∀ E q G', PX E q G' → wk_T w mJ7_getNode j 63 [(1, vR a1), (3, vR a3), (6, vI x6), (7, vR a7)] G' (r - b') E q)
    : wk_V w mJ7_getNode j 60 [(1, vR a1), (3, vR a3), (6, vI x6), (7, vR a7)] [] G r := by
  refine wk_aload_n 1 dJ7_getNode_60 rfl rfl ?_
  refine wk_aload dJ7_getNode_61 rfl ?_
  refine wk_eAt 1 e1 rfl ?_
  exact wk_callU (n := 1) (x := ⟨"java/lang/Object", "equals", "(Ljava/lang/Object;)Z"⟩) "java/lang/Object" hC rfl (Or.inl (by decide +kernel)) q1047 q1049 q1048 (by show Cond.selects (hp_C (hp_kd G o1)) _ _ ∈ lw_all; rw [hkr]; exact q1050) q3225 q1081 (by decide +kernel) (Nat.le_of_ble_eq_true rfl) ⟨by show hp_kd G o1 ≠ 0; rw [hkr]; decide, by show hp_kd G o1 < 28; rw [hkr]; decide⟩ rfl rfl (Nat.le_of_ble_eq_true rfl) hdp hb dJ7_getNode_63 (fun v G' h => (wk_sub [(1, vR a1), (3, vR a3), (6, vI x6)] ⟨rfl, rfl, rfl, trivial⟩ (kr v G' h))) kx
theorem blJ7_getNode_60_k5 {w : WD} {j : JB} {r : Nat} {G : GH} {a1 : Option Nat} {a3 : Option Nat} {x6 : Int32} {a7 : Option Nat} {o1 : Nat} {d' b' : Nat} {P : Option WV → GH → Prop} {PX : String → Nat → GH → Prop}
    (e1 : a1 = some o1)
    (hkr : hp_kd G o1 = 5)
    (hC : wk_C w mJ28_equals d' b' [vR (some o1), vR a7] G P PX)
    (hdp : d' + 1 ≤ j.1)
    (hb : b' ≤ r)
    (kr : ∀ v G', P v G' → wk_V w mJ7_getNode j 66 [(1, vR a1), (3, vR a3), (6, vI x6)] (v.toList ++ []) G' (r - b'))
    (kx : ∀ E q G', PX E q G' → wk_T w mJ7_getNode j 63 [(1, vR a1), (3, vR a3), (6, vI x6), (7, vR a7)] G' (r - b') E q)
    : wk_V w mJ7_getNode j 60 [(1, vR a1), (3, vR a3), (6, vI x6), (7, vR a7)] [] G r := by
  refine wk_aload_n 1 dJ7_getNode_60 rfl rfl ?_
  refine wk_aload dJ7_getNode_61 rfl ?_
  refine wk_eAt 1 e1 rfl ?_
  exact wk_callU (n := 1) (x := ⟨"java/lang/Object", "equals", "(Ljava/lang/Object;)Z"⟩) "java/lang/Object" hC rfl (Or.inl (by decide +kernel)) q1047 q1049 q1048 (by show Cond.selects (hp_C (hp_kd G o1)) _ _ ∈ lw_all; rw [hkr]; exact q1051) q3225 q1081 (by decide +kernel) (Nat.le_of_ble_eq_true rfl) ⟨by show hp_kd G o1 ≠ 0; rw [hkr]; decide, by show hp_kd G o1 < 28; rw [hkr]; decide⟩ rfl rfl (Nat.le_of_ble_eq_true rfl) hdp hb dJ7_getNode_63 (fun v G' h => (wk_sub [(1, vR a1), (3, vR a3), (6, vI x6)] ⟨rfl, rfl, rfl, trivial⟩ (kr v G' h))) kx
theorem blJ7_getNode_60_k18 {w : WD} {j : JB} {r : Nat} {G : GH} {a1 : Option Nat} {a3 : Option Nat} {x6 : Int32} {a7 : Option Nat} {o1 : Nat} {d' b' : Nat} {P : Option WV → GH → Prop} {PX : String → Nat → GH → Prop}
    (e1 : a1 = some o1)
    (hkr : hp_kd G o1 = 18)
    (hC : wk_C w mJ28_equals d' b' [vR (some o1), vR a7] G P PX)
    (hdp : d' + 1 ≤ j.1)
    (hb : b' ≤ r)
    (kr : ∀ v G', P v G' → wk_V w mJ7_getNode j 66 [(1, vR a1), (3, vR a3), (6, vI x6)] (v.toList ++ []) G' (r - b'))
    (kx : ∀ E q G', PX E q G' → wk_T w mJ7_getNode j 63 [(1, vR a1), (3, vR a3), (6, vI x6), (7, vR a7)] G' (r - b') E q)
    : wk_V w mJ7_getNode j 60 [(1, vR a1), (3, vR a3), (6, vI x6), (7, vR a7)] [] G r := by
  refine wk_aload_n 1 dJ7_getNode_60 rfl rfl ?_
  refine wk_aload dJ7_getNode_61 rfl ?_
  refine wk_eAt 1 e1 rfl ?_
  exact wk_callU (n := 1) (x := ⟨"java/lang/Object", "equals", "(Ljava/lang/Object;)Z"⟩) "java/lang/Object" hC rfl (Or.inl (by decide +kernel)) q1047 q1049 q1048 (by show Cond.selects (hp_C (hp_kd G o1)) _ _ ∈ lw_all; rw [hkr]; exact q1052) q3225 q1081 (by decide +kernel) (Nat.le_of_ble_eq_true rfl) ⟨by show hp_kd G o1 ≠ 0; rw [hkr]; decide, by show hp_kd G o1 < 28; rw [hkr]; decide⟩ rfl rfl (Nat.le_of_ble_eq_true rfl) hdp hb dJ7_getNode_63 (fun v G' h => (wk_sub [(1, vR a1), (3, vR a3), (6, vI x6)] ⟨rfl, rfl, rfl, trivial⟩ (kr v G' h))) kx
theorem blJ7_getNode_60_k21 {w : WD} {j : JB} {r : Nat} {G : GH} {a1 : Option Nat} {a3 : Option Nat} {x6 : Int32} {a7 : Option Nat} {o1 : Nat} {d' b' : Nat} {P : Option WV → GH → Prop} {PX : String → Nat → GH → Prop}
    (e1 : a1 = some o1)
    (hkr : hp_kd G o1 = 21)
    (hC : wk_C w mJ28_equals d' b' [vR (some o1), vR a7] G P PX)
    (hdp : d' + 1 ≤ j.1)
    (hb : b' ≤ r)
    (kr : ∀ v G', P v G' → wk_V w mJ7_getNode j 66 [(1, vR a1), (3, vR a3), (6, vI x6)] (v.toList ++ []) G' (r - b'))
    (kx : ∀ E q G', PX E q G' → wk_T w mJ7_getNode j 63 [(1, vR a1), (3, vR a3), (6, vI x6), (7, vR a7)] G' (r - b') E q)
    : wk_V w mJ7_getNode j 60 [(1, vR a1), (3, vR a3), (6, vI x6), (7, vR a7)] [] G r := by
  refine wk_aload_n 1 dJ7_getNode_60 rfl rfl ?_
  refine wk_aload dJ7_getNode_61 rfl ?_
  refine wk_eAt 1 e1 rfl ?_
  exact wk_callU (n := 1) (x := ⟨"java/lang/Object", "equals", "(Ljava/lang/Object;)Z"⟩) "java/lang/Object" hC rfl (Or.inl (by decide +kernel)) q1047 q1049 q1048 (by show Cond.selects (hp_C (hp_kd G o1)) _ _ ∈ lw_all; rw [hkr]; exact q1053) q3225 q1081 (by decide +kernel) (Nat.le_of_ble_eq_true rfl) ⟨by show hp_kd G o1 ≠ 0; rw [hkr]; decide, by show hp_kd G o1 < 28; rw [hkr]; decide⟩ rfl rfl (Nat.le_of_ble_eq_true rfl) hdp hb dJ7_getNode_63 (fun v G' h => (wk_sub [(1, vR a1), (3, vR a3), (6, vI x6)] ⟨rfl, rfl, rfl, trivial⟩ (kr v G' h))) kx
theorem blJ7_getNode_60_k16 {w : WD} {j : JB} {r : Nat} {G : GH} {a1 : Option Nat} {a3 : Option Nat} {x6 : Int32} {a7 : Option Nat} {o1 : Nat} {d' b' : Nat} {P : Option WV → GH → Prop} {PX : String → Nat → GH → Prop}
    (e1 : a1 = some o1)
    (hkr : hp_kd G o1 = 16)
    (hC : wk_C w mJ28_equals d' b' [vR (some o1), vR a7] G P PX)
    (hdp : d' + 1 ≤ j.1)
    (hb : b' ≤ r)
    (kr : ∀ v G', P v G' → wk_V w mJ7_getNode j 66 [(1, vR a1), (3, vR a3), (6, vI x6)] (v.toList ++ []) G' (r - b'))
    (kx : ∀ E q G', PX E q G' → wk_T w mJ7_getNode j 63 [(1, vR a1), (3, vR a3), (6, vI x6), (7, vR a7)] G' (r - b') E q)
    : wk_V w mJ7_getNode j 60 [(1, vR a1), (3, vR a3), (6, vI x6), (7, vR a7)] [] G r := by
  refine wk_aload_n 1 dJ7_getNode_60 rfl rfl ?_
  refine wk_aload dJ7_getNode_61 rfl ?_
  refine wk_eAt 1 e1 rfl ?_
  exact wk_callU (n := 1) (x := ⟨"java/lang/Object", "equals", "(Ljava/lang/Object;)Z"⟩) "java/lang/Object" hC rfl (Or.inl (by decide +kernel)) q1047 q1049 q1048 (by show Cond.selects (hp_C (hp_kd G o1)) _ _ ∈ lw_all; rw [hkr]; exact q1054) q3225 q1081 (by decide +kernel) (Nat.le_of_ble_eq_true rfl) ⟨by show hp_kd G o1 ≠ 0; rw [hkr]; decide, by show hp_kd G o1 < 28; rw [hkr]; decide⟩ rfl rfl (Nat.le_of_ble_eq_true rfl) hdp hb dJ7_getNode_63 (fun v G' h => (wk_sub [(1, vR a1), (3, vR a3), (6, vI x6)] ⟨rfl, rfl, rfl, trivial⟩ (kr v G' h))) kx
theorem blJ7_getNode_60_k13 {w : WD} {j : JB} {r : Nat} {G : GH} {a1 : Option Nat} {a3 : Option Nat} {x6 : Int32} {a7 : Option Nat} {o1 : Nat} {d' b' : Nat} {P : Option WV → GH → Prop} {PX : String → Nat → GH → Prop}
    (e1 : a1 = some o1)
    (hkr : hp_kd G o1 = 13)
    (hC : wk_C w mJ28_equals d' b' [vR (some o1), vR a7] G P PX)
    (hdp : d' + 1 ≤ j.1)
    (hb : b' ≤ r)
    (kr : ∀ v G', P v G' → wk_V w mJ7_getNode j 66 [(1, vR a1), (3, vR a3), (6, vI x6)] (v.toList ++ []) G' (r - b'))
    (kx : ∀ E q G', PX E q G' → wk_T w mJ7_getNode j 63 [(1, vR a1), (3, vR a3), (6, vI x6), (7, vR a7)] G' (r - b') E q)
    : wk_V w mJ7_getNode j 60 [(1, vR a1), (3, vR a3), (6, vI x6), (7, vR a7)] [] G r := by
  refine wk_aload_n 1 dJ7_getNode_60 rfl rfl ?_
  refine wk_aload dJ7_getNode_61 rfl ?_
  refine wk_eAt 1 e1 rfl ?_
  exact wk_callU (n := 1) (x := ⟨"java/lang/Object", "equals", "(Ljava/lang/Object;)Z"⟩) "java/lang/Object" hC rfl (Or.inl (by decide +kernel)) q1047 q1049 q1048 (by show Cond.selects (hp_C (hp_kd G o1)) _ _ ∈ lw_all; rw [hkr]; exact q1055) q3225 q1081 (by decide +kernel) (Nat.le_of_ble_eq_true rfl) ⟨by show hp_kd G o1 ≠ 0; rw [hkr]; decide, by show hp_kd G o1 < 28; rw [hkr]; decide⟩ rfl rfl (Nat.le_of_ble_eq_true rfl) hdp hb dJ7_getNode_63 (fun v G' h => (wk_sub [(1, vR a1), (3, vR a3), (6, vI x6)] ⟨rfl, rfl, rfl, trivial⟩ (kr v G' h))) kx
theorem blJ7_getNode_60_k20 {w : WD} {j : JB} {r : Nat} {G : GH} {a1 : Option Nat} {a3 : Option Nat} {x6 : Int32} {a7 : Option Nat} {o1 : Nat} {d' b' : Nat} {P : Option WV → GH → Prop} {PX : String → Nat → GH → Prop}
    (e1 : a1 = some o1)
    (hkr : hp_kd G o1 = 20)
    (hC : wk_C w mJ28_equals d' b' [vR (some o1), vR a7] G P PX)
    (hdp : d' + 1 ≤ j.1)
    (hb : b' ≤ r)
    (kr : ∀ v G', P v G' → wk_V w mJ7_getNode j 66 [(1, vR a1), (3, vR a3), (6, vI x6)] (v.toList ++ []) G' (r - b'))
    (kx : ∀ E q G', PX E q G' → wk_T w mJ7_getNode j 63 [(1, vR a1), (3, vR a3), (6, vI x6), (7, vR a7)] G' (r - b') E q)
    : wk_V w mJ7_getNode j 60 [(1, vR a1), (3, vR a3), (6, vI x6), (7, vR a7)] [] G r := by
  refine wk_aload_n 1 dJ7_getNode_60 rfl rfl ?_
  refine wk_aload dJ7_getNode_61 rfl ?_
  refine wk_eAt 1 e1 rfl ?_
  exact wk_callU (n := 1) (x := ⟨"java/lang/Object", "equals", "(Ljava/lang/Object;)Z"⟩) "java/lang/Object" hC rfl (Or.inl (by decide +kernel)) q1047 q1049 q1048 (by show Cond.selects (hp_C (hp_kd G o1)) _ _ ∈ lw_all; rw [hkr]; exact q1056) q3225 q1081 (by decide +kernel) (Nat.le_of_ble_eq_true rfl) ⟨by show hp_kd G o1 ≠ 0; rw [hkr]; decide, by show hp_kd G o1 < 28; rw [hkr]; decide⟩ rfl rfl (Nat.le_of_ble_eq_true rfl) hdp hb dJ7_getNode_63 (fun v G' h => (wk_sub [(1, vR a1), (3, vR a3), (6, vI x6)] ⟨rfl, rfl, rfl, trivial⟩ (kr v G' h))) kx
theorem blJ7_getNode_60_k7 {w : WD} {j : JB} {r : Nat} {G : GH} {a1 : Option Nat} {a3 : Option Nat} {x6 : Int32} {a7 : Option Nat} {o1 : Nat} {d' b' : Nat} {P : Option WV → GH → Prop} {PX : String → Nat → GH → Prop}
    (e1 : a1 = some o1)
    (hkr : hp_kd G o1 = 7)
    (hC : wk_C w mJ28_equals d' b' [vR (some o1), vR a7] G P PX)
    (hdp : d' + 1 ≤ j.1)
    (hb : b' ≤ r)
    (kr : ∀ v G', P v G' → wk_V w mJ7_getNode j 66 [(1, vR a1), (3, vR a3), (6, vI x6)] (v.toList ++ []) G' (r - b'))
    (kx : ∀ E q G', PX E q G' → wk_T w mJ7_getNode j 63 [(1, vR a1), (3, vR a3), (6, vI x6), (7, vR a7)] G' (r - b') E q)
    : wk_V w mJ7_getNode j 60 [(1, vR a1), (3, vR a3), (6, vI x6), (7, vR a7)] [] G r := by
  refine wk_aload_n 1 dJ7_getNode_60 rfl rfl ?_
  refine wk_aload dJ7_getNode_61 rfl ?_
  refine wk_eAt 1 e1 rfl ?_
  exact wk_callU (n := 1) (x := ⟨"java/lang/Object", "equals", "(Ljava/lang/Object;)Z"⟩) "java/lang/Object" hC rfl (Or.inl (by decide +kernel)) q1047 q1049 q1048 (by show Cond.selects (hp_C (hp_kd G o1)) _ _ ∈ lw_all; rw [hkr]; exact q1057) q3225 q1081 (by decide +kernel) (Nat.le_of_ble_eq_true rfl) ⟨by show hp_kd G o1 ≠ 0; rw [hkr]; decide, by show hp_kd G o1 < 28; rw [hkr]; decide⟩ rfl rfl (Nat.le_of_ble_eq_true rfl) hdp hb dJ7_getNode_63 (fun v G' h => (wk_sub [(1, vR a1), (3, vR a3), (6, vI x6)] ⟨rfl, rfl, rfl, trivial⟩ (kr v G' h))) kx
theorem blJ7_getNode_60_k17 {w : WD} {j : JB} {r : Nat} {G : GH} {a1 : Option Nat} {a3 : Option Nat} {x6 : Int32} {a7 : Option Nat} {o1 : Nat} {d' b' : Nat} {P : Option WV → GH → Prop} {PX : String → Nat → GH → Prop}
    (e1 : a1 = some o1)
    (hkr : hp_kd G o1 = 17)
    (hC : wk_C w mJ28_equals d' b' [vR (some o1), vR a7] G P PX)
    (hdp : d' + 1 ≤ j.1)
    (hb : b' ≤ r)
    (kr : ∀ v G', P v G' → wk_V w mJ7_getNode j 66 [(1, vR a1), (3, vR a3), (6, vI x6)] (v.toList ++ []) G' (r - b'))
    (kx : ∀ E q G', PX E q G' → wk_T w mJ7_getNode j 63 [(1, vR a1), (3, vR a3), (6, vI x6), (7, vR a7)] G' (r - b') E q)
    : wk_V w mJ7_getNode j 60 [(1, vR a1), (3, vR a3), (6, vI x6), (7, vR a7)] [] G r := by
  refine wk_aload_n 1 dJ7_getNode_60 rfl rfl ?_
  refine wk_aload dJ7_getNode_61 rfl ?_
  refine wk_eAt 1 e1 rfl ?_
  exact wk_callU (n := 1) (x := ⟨"java/lang/Object", "equals", "(Ljava/lang/Object;)Z"⟩) "java/lang/Object" hC rfl (Or.inl (by decide +kernel)) q1047 q1049 q1048 (by show Cond.selects (hp_C (hp_kd G o1)) _ _ ∈ lw_all; rw [hkr]; exact q1058) q3225 q1081 (by decide +kernel) (Nat.le_of_ble_eq_true rfl) ⟨by show hp_kd G o1 ≠ 0; rw [hkr]; decide, by show hp_kd G o1 < 28; rw [hkr]; decide⟩ rfl rfl (Nat.le_of_ble_eq_true rfl) hdp hb dJ7_getNode_63 (fun v G' h => (wk_sub [(1, vR a1), (3, vR a3), (6, vI x6)] ⟨rfl, rfl, rfl, trivial⟩ (kr v G' h))) kx
theorem blJ7_getNode_60_k9 {w : WD} {j : JB} {r : Nat} {G : GH} {a1 : Option Nat} {a3 : Option Nat} {x6 : Int32} {a7 : Option Nat} {o1 : Nat} {d' b' : Nat} {P : Option WV → GH → Prop} {PX : String → Nat → GH → Prop}
    (e1 : a1 = some o1)
    (hkr : hp_kd G o1 = 9)
    (hC : wk_C w mJ28_equals d' b' [vR (some o1), vR a7] G P PX)
    (hdp : d' + 1 ≤ j.1)
    (hb : b' ≤ r)
    (kr : ∀ v G', P v G' → wk_V w mJ7_getNode j 66 [(1, vR a1), (3, vR a3), (6, vI x6)] (v.toList ++ []) G' (r - b'))
    (kx : ∀ E q G', PX E q G' → wk_T w mJ7_getNode j 63 [(1, vR a1), (3, vR a3), (6, vI x6), (7, vR a7)] G' (r - b') E q)
    : wk_V w mJ7_getNode j 60 [(1, vR a1), (3, vR a3), (6, vI x6), (7, vR a7)] [] G r := by
  refine wk_aload_n 1 dJ7_getNode_60 rfl rfl ?_
  refine wk_aload dJ7_getNode_61 rfl ?_
  refine wk_eAt 1 e1 rfl ?_
  exact wk_callU (n := 1) (x := ⟨"java/lang/Object", "equals", "(Ljava/lang/Object;)Z"⟩) "java/lang/Object" hC rfl (Or.inl (by decide +kernel)) q1047 q1049 q1048 (by show Cond.selects (hp_C (hp_kd G o1)) _ _ ∈ lw_all; rw [hkr]; exact q1059) q3225 q1081 (by decide +kernel) (Nat.le_of_ble_eq_true rfl) ⟨by show hp_kd G o1 ≠ 0; rw [hkr]; decide, by show hp_kd G o1 < 28; rw [hkr]; decide⟩ rfl rfl (Nat.le_of_ble_eq_true rfl) hdp hb dJ7_getNode_63 (fun v G' h => (wk_sub [(1, vR a1), (3, vR a3), (6, vI x6)] ⟨rfl, rfl, rfl, trivial⟩ (kr v G' h))) kx
theorem blJ7_getNode_60_k11 {w : WD} {j : JB} {r : Nat} {G : GH} {a1 : Option Nat} {a3 : Option Nat} {x6 : Int32} {a7 : Option Nat} {o1 : Nat} {d' b' : Nat} {P : Option WV → GH → Prop} {PX : String → Nat → GH → Prop}
    (e1 : a1 = some o1)
    (hkr : hp_kd G o1 = 11)
    (hC : wk_C w mJ28_equals d' b' [vR (some o1), vR a7] G P PX)
    (hdp : d' + 1 ≤ j.1)
    (hb : b' ≤ r)
    (kr : ∀ v G', P v G' → wk_V w mJ7_getNode j 66 [(1, vR a1), (3, vR a3), (6, vI x6)] (v.toList ++ []) G' (r - b'))
    (kx : ∀ E q G', PX E q G' → wk_T w mJ7_getNode j 63 [(1, vR a1), (3, vR a3), (6, vI x6), (7, vR a7)] G' (r - b') E q)
    : wk_V w mJ7_getNode j 60 [(1, vR a1), (3, vR a3), (6, vI x6), (7, vR a7)] [] G r := by
  refine wk_aload_n 1 dJ7_getNode_60 rfl rfl ?_
  refine wk_aload dJ7_getNode_61 rfl ?_
  refine wk_eAt 1 e1 rfl ?_
  exact wk_callU (n := 1) (x := ⟨"java/lang/Object", "equals", "(Ljava/lang/Object;)Z"⟩) "java/lang/Object" hC rfl (Or.inl (by decide +kernel)) q1047 q1049 q1048 (by show Cond.selects (hp_C (hp_kd G o1)) _ _ ∈ lw_all; rw [hkr]; exact q1060) q3225 q1081 (by decide +kernel) (Nat.le_of_ble_eq_true rfl) ⟨by show hp_kd G o1 ≠ 0; rw [hkr]; decide, by show hp_kd G o1 < 28; rw [hkr]; decide⟩ rfl rfl (Nat.le_of_ble_eq_true rfl) hdp hb dJ7_getNode_63 (fun v G' h => (wk_sub [(1, vR a1), (3, vR a3), (6, vI x6)] ⟨rfl, rfl, rfl, trivial⟩ (kr v G' h))) kx
theorem blJ7_getNode_60_k14 {w : WD} {j : JB} {r : Nat} {G : GH} {a1 : Option Nat} {a3 : Option Nat} {x6 : Int32} {a7 : Option Nat} {o1 : Nat} {d' b' : Nat} {P : Option WV → GH → Prop} {PX : String → Nat → GH → Prop}
    (e1 : a1 = some o1)
    (hkr : hp_kd G o1 = 14)
    (hC : wk_C w mJ28_equals d' b' [vR (some o1), vR a7] G P PX)
    (hdp : d' + 1 ≤ j.1)
    (hb : b' ≤ r)
    (kr : ∀ v G', P v G' → wk_V w mJ7_getNode j 66 [(1, vR a1), (3, vR a3), (6, vI x6)] (v.toList ++ []) G' (r - b'))
    (kx : ∀ E q G', PX E q G' → wk_T w mJ7_getNode j 63 [(1, vR a1), (3, vR a3), (6, vI x6), (7, vR a7)] G' (r - b') E q)
    : wk_V w mJ7_getNode j 60 [(1, vR a1), (3, vR a3), (6, vI x6), (7, vR a7)] [] G r := by
  refine wk_aload_n 1 dJ7_getNode_60 rfl rfl ?_
  refine wk_aload dJ7_getNode_61 rfl ?_
  refine wk_eAt 1 e1 rfl ?_
  exact wk_callU (n := 1) (x := ⟨"java/lang/Object", "equals", "(Ljava/lang/Object;)Z"⟩) "java/lang/Object" hC rfl (Or.inl (by decide +kernel)) q1047 q1049 q1048 (by show Cond.selects (hp_C (hp_kd G o1)) _ _ ∈ lw_all; rw [hkr]; exact q1061) q3225 q1081 (by decide +kernel) (Nat.le_of_ble_eq_true rfl) ⟨by show hp_kd G o1 ≠ 0; rw [hkr]; decide, by show hp_kd G o1 < 28; rw [hkr]; decide⟩ rfl rfl (Nat.le_of_ble_eq_true rfl) hdp hb dJ7_getNode_63 (fun v G' h => (wk_sub [(1, vR a1), (3, vR a3), (6, vI x6)] ⟨rfl, rfl, rfl, trivial⟩ (kr v G' h))) kx
theorem blJ7_getNode_60_k8 {w : WD} {j : JB} {r : Nat} {G : GH} {a1 : Option Nat} {a3 : Option Nat} {x6 : Int32} {a7 : Option Nat} {o1 : Nat} {d' b' : Nat} {P : Option WV → GH → Prop} {PX : String → Nat → GH → Prop}
    (e1 : a1 = some o1)
    (hkr : hp_kd G o1 = 8)
    (hC : wk_C w mJ28_equals d' b' [vR (some o1), vR a7] G P PX)
    (hdp : d' + 1 ≤ j.1)
    (hb : b' ≤ r)
    (kr : ∀ v G', P v G' → wk_V w mJ7_getNode j 66 [(1, vR a1), (3, vR a3), (6, vI x6)] (v.toList ++ []) G' (r - b'))
    (kx : ∀ E q G', PX E q G' → wk_T w mJ7_getNode j 63 [(1, vR a1), (3, vR a3), (6, vI x6), (7, vR a7)] G' (r - b') E q)
    : wk_V w mJ7_getNode j 60 [(1, vR a1), (3, vR a3), (6, vI x6), (7, vR a7)] [] G r := by
  refine wk_aload_n 1 dJ7_getNode_60 rfl rfl ?_
  refine wk_aload dJ7_getNode_61 rfl ?_
  refine wk_eAt 1 e1 rfl ?_
  exact wk_callU (n := 1) (x := ⟨"java/lang/Object", "equals", "(Ljava/lang/Object;)Z"⟩) "java/lang/Object" hC rfl (Or.inl (by decide +kernel)) q1047 q1049 q1048 (by show Cond.selects (hp_C (hp_kd G o1)) _ _ ∈ lw_all; rw [hkr]; exact q1062) q3225 q1081 (by decide +kernel) (Nat.le_of_ble_eq_true rfl) ⟨by show hp_kd G o1 ≠ 0; rw [hkr]; decide, by show hp_kd G o1 < 28; rw [hkr]; decide⟩ rfl rfl (Nat.le_of_ble_eq_true rfl) hdp hb dJ7_getNode_63 (fun v G' h => (wk_sub [(1, vR a1), (3, vR a3), (6, vI x6)] ⟨rfl, rfl, rfl, trivial⟩ (kr v G' h))) kx
theorem blJ7_getNode_60_k10 {w : WD} {j : JB} {r : Nat} {G : GH} {a1 : Option Nat} {a3 : Option Nat} {x6 : Int32} {a7 : Option Nat} {o1 : Nat} {d' b' : Nat} {P : Option WV → GH → Prop} {PX : String → Nat → GH → Prop}
    (e1 : a1 = some o1)
    (hkr : hp_kd G o1 = 10)
    (hC : wk_C w mJ28_equals d' b' [vR (some o1), vR a7] G P PX)
    (hdp : d' + 1 ≤ j.1)
    (hb : b' ≤ r)
    (kr : ∀ v G', P v G' → wk_V w mJ7_getNode j 66 [(1, vR a1), (3, vR a3), (6, vI x6)] (v.toList ++ []) G' (r - b'))
    (kx : ∀ E q G', PX E q G' → wk_T w mJ7_getNode j 63 [(1, vR a1), (3, vR a3), (6, vI x6), (7, vR a7)] G' (r - b') E q)
    : wk_V w mJ7_getNode j 60 [(1, vR a1), (3, vR a3), (6, vI x6), (7, vR a7)] [] G r := by
  refine wk_aload_n 1 dJ7_getNode_60 rfl rfl ?_
  refine wk_aload dJ7_getNode_61 rfl ?_
  refine wk_eAt 1 e1 rfl ?_
  exact wk_callU (n := 1) (x := ⟨"java/lang/Object", "equals", "(Ljava/lang/Object;)Z"⟩) "java/lang/Object" hC rfl (Or.inl (by decide +kernel)) q1047 q1049 q1048 (by show Cond.selects (hp_C (hp_kd G o1)) _ _ ∈ lw_all; rw [hkr]; exact q1063) q3225 q1081 (by decide +kernel) (Nat.le_of_ble_eq_true rfl) ⟨by show hp_kd G o1 ≠ 0; rw [hkr]; decide, by show hp_kd G o1 < 28; rw [hkr]; decide⟩ rfl rfl (Nat.le_of_ble_eq_true rfl) hdp hb dJ7_getNode_63 (fun v G' h => (wk_sub [(1, vR a1), (3, vR a3), (6, vI x6)] ⟨rfl, rfl, rfl, trivial⟩ (kr v G' h))) kx
theorem blJ7_getNode_60_k15 {w : WD} {j : JB} {r : Nat} {G : GH} {a1 : Option Nat} {a3 : Option Nat} {x6 : Int32} {a7 : Option Nat} {o1 : Nat} {d' b' : Nat} {P : Option WV → GH → Prop} {PX : String → Nat → GH → Prop}
    (e1 : a1 = some o1)
    (hkr : hp_kd G o1 = 15)
    (hC : wk_C w mJ28_equals d' b' [vR (some o1), vR a7] G P PX)
    (hdp : d' + 1 ≤ j.1)
    (hb : b' ≤ r)
    (kr : ∀ v G', P v G' → wk_V w mJ7_getNode j 66 [(1, vR a1), (3, vR a3), (6, vI x6)] (v.toList ++ []) G' (r - b'))
    (kx : ∀ E q G', PX E q G' → wk_T w mJ7_getNode j 63 [(1, vR a1), (3, vR a3), (6, vI x6), (7, vR a7)] G' (r - b') E q)
    : wk_V w mJ7_getNode j 60 [(1, vR a1), (3, vR a3), (6, vI x6), (7, vR a7)] [] G r := by
  refine wk_aload_n 1 dJ7_getNode_60 rfl rfl ?_
  refine wk_aload dJ7_getNode_61 rfl ?_
  refine wk_eAt 1 e1 rfl ?_
  exact wk_callU (n := 1) (x := ⟨"java/lang/Object", "equals", "(Ljava/lang/Object;)Z"⟩) "java/lang/Object" hC rfl (Or.inl (by decide +kernel)) q1047 q1049 q1048 (by show Cond.selects (hp_C (hp_kd G o1)) _ _ ∈ lw_all; rw [hkr]; exact q1064) q3225 q1081 (by decide +kernel) (Nat.le_of_ble_eq_true rfl) ⟨by show hp_kd G o1 ≠ 0; rw [hkr]; decide, by show hp_kd G o1 < 28; rw [hkr]; decide⟩ rfl rfl (Nat.le_of_ble_eq_true rfl) hdp hb dJ7_getNode_63 (fun v G' h => (wk_sub [(1, vR a1), (3, vR a3), (6, vI x6)] ⟨rfl, rfl, rfl, trivial⟩ (kr v G' h))) kx
theorem blJ7_getNode_60_k12 {w : WD} {j : JB} {r : Nat} {G : GH} {a1 : Option Nat} {a3 : Option Nat} {x6 : Int32} {a7 : Option Nat} {o1 : Nat} {d' b' : Nat} {P : Option WV → GH → Prop} {PX : String → Nat → GH → Prop}
    (e1 : a1 = some o1)
    (hkr : hp_kd G o1 = 12)
    (hC : wk_C w mJ28_equals d' b' [vR (some o1), vR a7] G P PX)
    (hdp : d' + 1 ≤ j.1)
    (hb : b' ≤ r)
    (kr : ∀ v G', P v G' → wk_V w mJ7_getNode j 66 [(1, vR a1), (3, vR a3), (6, vI x6)] (v.toList ++ []) G' (r - b'))
    (kx : ∀ E q G', PX E q G' → wk_T w mJ7_getNode j 63 [(1, vR a1), (3, vR a3), (6, vI x6), (7, vR a7)] G' (r - b') E q)
    : wk_V w mJ7_getNode j 60 [(1, vR a1), (3, vR a3), (6, vI x6), (7, vR a7)] [] G r := by
  refine wk_aload_n 1 dJ7_getNode_60 rfl rfl ?_
  refine wk_aload dJ7_getNode_61 rfl ?_
  refine wk_eAt 1 e1 rfl ?_
  exact wk_callU (n := 1) (x := ⟨"java/lang/Object", "equals", "(Ljava/lang/Object;)Z"⟩) "java/lang/Object" hC rfl (Or.inl (by decide +kernel)) q1047 q1049 q1048 (by show Cond.selects (hp_C (hp_kd G o1)) _ _ ∈ lw_all; rw [hkr]; exact q1065) q3225 q1081 (by decide +kernel) (Nat.le_of_ble_eq_true rfl) ⟨by show hp_kd G o1 ≠ 0; rw [hkr]; decide, by show hp_kd G o1 < 28; rw [hkr]; decide⟩ rfl rfl (Nat.le_of_ble_eq_true rfl) hdp hb dJ7_getNode_63 (fun v G' h => (wk_sub [(1, vR a1), (3, vR a3), (6, vI x6)] ⟨rfl, rfl, rfl, trivial⟩ (kr v G' h))) kx
theorem blJ7_getNode_60_k6 {w : WD} {j : JB} {r : Nat} {G : GH} {a1 : Option Nat} {a3 : Option Nat} {x6 : Int32} {a7 : Option Nat} {o1 : Nat} {d' b' : Nat} {P : Option WV → GH → Prop} {PX : String → Nat → GH → Prop}
    (e1 : a1 = some o1)
    (hkr : hp_kd G o1 = 6)
    (hC : wk_C w mJ28_equals d' b' [vR (some o1), vR a7] G P PX)
    (hdp : d' + 1 ≤ j.1)
    (hb : b' ≤ r)
    (kr : ∀ v G', P v G' → wk_V w mJ7_getNode j 66 [(1, vR a1), (3, vR a3), (6, vI x6)] (v.toList ++ []) G' (r - b'))
    (kx : ∀ E q G', PX E q G' → wk_T w mJ7_getNode j 63 [(1, vR a1), (3, vR a3), (6, vI x6), (7, vR a7)] G' (r - b') E q)
    : wk_V w mJ7_getNode j 60 [(1, vR a1), (3, vR a3), (6, vI x6), (7, vR a7)] [] G r := by
  refine wk_aload_n 1 dJ7_getNode_60 rfl rfl ?_
  refine wk_aload dJ7_getNode_61 rfl ?_
  refine wk_eAt 1 e1 rfl ?_
  exact wk_callU (n := 1) (x := ⟨"java/lang/Object", "equals", "(Ljava/lang/Object;)Z"⟩) "java/lang/Object" hC rfl (Or.inl (by decide +kernel)) q1047 q1049 q1048 (by show Cond.selects (hp_C (hp_kd G o1)) _ _ ∈ lw_all; rw [hkr]; exact q1070) q3225 q1081 (by decide +kernel) (Nat.le_of_ble_eq_true rfl) ⟨by show hp_kd G o1 ≠ 0; rw [hkr]; decide, by show hp_kd G o1 < 28; rw [hkr]; decide⟩ rfl rfl (Nat.le_of_ble_eq_true rfl) hdp hb dJ7_getNode_63 (fun v G' h => (wk_sub [(1, vR a1), (3, vR a3), (6, vI x6)] ⟨rfl, rfl, rfl, trivial⟩ (kr v G' h))) kx
theorem blJ7_getNode_60_k19 {w : WD} {j : JB} {r : Nat} {G : GH} {a1 : Option Nat} {a3 : Option Nat} {x6 : Int32} {a7 : Option Nat} {o1 : Nat} {d' b' : Nat} {P : Option WV → GH → Prop} {PX : String → Nat → GH → Prop}
    (e1 : a1 = some o1)
    (hkr : hp_kd G o1 = 19)
    (hC : wk_C w mJ28_equals d' b' [vR (some o1), vR a7] G P PX)
    (hdp : d' + 1 ≤ j.1)
    (hb : b' ≤ r)
    (kr : ∀ v G', P v G' → wk_V w mJ7_getNode j 66 [(1, vR a1), (3, vR a3), (6, vI x6)] (v.toList ++ []) G' (r - b'))
    (kx : ∀ E q G', PX E q G' → wk_T w mJ7_getNode j 63 [(1, vR a1), (3, vR a3), (6, vI x6), (7, vR a7)] G' (r - b') E q)
    : wk_V w mJ7_getNode j 60 [(1, vR a1), (3, vR a3), (6, vI x6), (7, vR a7)] [] G r := by
  refine wk_aload_n 1 dJ7_getNode_60 rfl rfl ?_
  refine wk_aload dJ7_getNode_61 rfl ?_
  refine wk_eAt 1 e1 rfl ?_
  exact wk_callU (n := 1) (x := ⟨"java/lang/Object", "equals", "(Ljava/lang/Object;)Z"⟩) "java/lang/Object" hC rfl (Or.inl (by decide +kernel)) q1047 q1049 q1048 (by show Cond.selects (hp_C (hp_kd G o1)) _ _ ∈ lw_all; rw [hkr]; exact q1071) q3225 q1081 (by decide +kernel) (Nat.le_of_ble_eq_true rfl) ⟨by show hp_kd G o1 ≠ 0; rw [hkr]; decide, by show hp_kd G o1 < 28; rw [hkr]; decide⟩ rfl rfl (Nat.le_of_ble_eq_true rfl) hdp hb dJ7_getNode_63 (fun v G' h => (wk_sub [(1, vR a1), (3, vR a3), (6, vI x6)] ⟨rfl, rfl, rfl, trivial⟩ (kr v G' h))) kx
theorem blJ7_getNode_60_k3 {w : WD} {j : JB} {r : Nat} {G : GH} {a1 : Option Nat} {a3 : Option Nat} {x6 : Int32} {a7 : Option Nat} {o1 : Nat} {d' b' : Nat} {P : Option WV → GH → Prop} {PX : String → Nat → GH → Prop}
    (e1 : a1 = some o1)
    (hkr : hp_kd G o1 = 3)
    (hC : wk_C w mJ28_equals d' b' [vR (some o1), vR a7] G P PX)
    (hdp : d' + 1 ≤ j.1)
    (hb : b' ≤ r)
    (kr : ∀ v G', P v G' → wk_V w mJ7_getNode j 66 [(1, vR a1), (3, vR a3), (6, vI x6)] (v.toList ++ []) G' (r - b'))
    (kx : ∀ E q G', PX E q G' → wk_T w mJ7_getNode j 63 [(1, vR a1), (3, vR a3), (6, vI x6), (7, vR a7)] G' (r - b') E q)
    : wk_V w mJ7_getNode j 60 [(1, vR a1), (3, vR a3), (6, vI x6), (7, vR a7)] [] G r := by
  refine wk_aload_n 1 dJ7_getNode_60 rfl rfl ?_
  refine wk_aload dJ7_getNode_61 rfl ?_
  refine wk_eAt 1 e1 rfl ?_
  exact wk_callU (n := 1) (x := ⟨"java/lang/Object", "equals", "(Ljava/lang/Object;)Z"⟩) "java/lang/Object" hC rfl (Or.inl (by decide +kernel)) q1047 q1049 q1048 (by show Cond.selects (hp_C (hp_kd G o1)) _ _ ∈ lw_all; rw [hkr]; exact q1072) q3225 q1081 (by decide +kernel) (Nat.le_of_ble_eq_true rfl) ⟨by show hp_kd G o1 ≠ 0; rw [hkr]; decide, by show hp_kd G o1 < 28; rw [hkr]; decide⟩ rfl rfl (Nat.le_of_ble_eq_true rfl) hdp hb dJ7_getNode_63 (fun v G' h => (wk_sub [(1, vR a1), (3, vR a3), (6, vI x6)] ⟨rfl, rfl, rfl, trivial⟩ (kr v G' h))) kx
theorem blJ7_getNode_60_k1 {w : WD} {j : JB} {r : Nat} {G : GH} {a1 : Option Nat} {a3 : Option Nat} {x6 : Int32} {a7 : Option Nat} {o1 : Nat} {d' b' : Nat} {P : Option WV → GH → Prop} {PX : String → Nat → GH → Prop}
    (e1 : a1 = some o1)
    (hkr : hp_kd G o1 = 1)
    (hC : wk_C w mJ28_equals d' b' [vR (some o1), vR a7] G P PX)
    (hdp : d' + 1 ≤ j.1)
    (hb : b' ≤ r)
    (kr : ∀ v G', P v G' → wk_V w mJ7_getNode j 66 [(1, vR a1), (3, vR a3), (6, vI x6)] (v.toList ++ []) G' (r - b'))
    (kx : ∀ E q G', PX E q G' → wk_T w mJ7_getNode j 63 [(1, vR a1), (3, vR a3), (6, vI x6), (7, vR a7)] G' (r - b') E q)
    : wk_V w mJ7_getNode j 60 [(1, vR a1), (3, vR a3), (6, vI x6), (7, vR a7)] [] G r := by
  refine wk_aload_n 1 dJ7_getNode_60 rfl rfl ?_
  refine wk_aload dJ7_getNode_61 rfl ?_
  refine wk_eAt 1 e1 rfl ?_
  exact wk_callU (n := 1) (x := ⟨"java/lang/Object", "equals", "(Ljava/lang/Object;)Z"⟩) "java/lang/Object" hC rfl (Or.inl (by decide +kernel)) q1047 q1049 q1048 (by show Cond.selects (hp_C (hp_kd G o1)) _ _ ∈ lw_all; rw [hkr]; exact q1073) q3225 q1081 (by decide +kernel) (Nat.le_of_ble_eq_true rfl) ⟨by show hp_kd G o1 ≠ 0; rw [hkr]; decide, by show hp_kd G o1 < 28; rw [hkr]; decide⟩ rfl rfl (Nat.le_of_ble_eq_true rfl) hdp hb dJ7_getNode_63 (fun v G' h => (wk_sub [(1, vR a1), (3, vR a3), (6, vI x6)] ⟨rfl, rfl, rfl, trivial⟩ (kr v G' h))) kx
theorem blJ7_getNode_60_k4 {w : WD} {j : JB} {r : Nat} {G : GH} {a1 : Option Nat} {a3 : Option Nat} {x6 : Int32} {a7 : Option Nat} {o1 : Nat} {d' b' : Nat} {P : Option WV → GH → Prop} {PX : String → Nat → GH → Prop}
    (e1 : a1 = some o1)
    (hkr : hp_kd G o1 = 4)
    (hC : wk_C w mJ28_equals d' b' [vR (some o1), vR a7] G P PX)
    (hdp : d' + 1 ≤ j.1)
    (hb : b' ≤ r)
    (kr : ∀ v G', P v G' → wk_V w mJ7_getNode j 66 [(1, vR a1), (3, vR a3), (6, vI x6)] (v.toList ++ []) G' (r - b'))
    (kx : ∀ E q G', PX E q G' → wk_T w mJ7_getNode j 63 [(1, vR a1), (3, vR a3), (6, vI x6), (7, vR a7)] G' (r - b') E q)
    : wk_V w mJ7_getNode j 60 [(1, vR a1), (3, vR a3), (6, vI x6), (7, vR a7)] [] G r := by
  refine wk_aload_n 1 dJ7_getNode_60 rfl rfl ?_
  refine wk_aload dJ7_getNode_61 rfl ?_
  refine wk_eAt 1 e1 rfl ?_
  exact wk_callU (n := 1) (x := ⟨"java/lang/Object", "equals", "(Ljava/lang/Object;)Z"⟩) "java/lang/Object" hC rfl (Or.inl (by decide +kernel)) q1047 q1049 q1048 (by show Cond.selects (hp_C (hp_kd G o1)) _ _ ∈ lw_all; rw [hkr]; exact q1074) q3225 q1081 (by decide +kernel) (Nat.le_of_ble_eq_true rfl) ⟨by show hp_kd G o1 ≠ 0; rw [hkr]; decide, by show hp_kd G o1 < 28; rw [hkr]; decide⟩ rfl rfl (Nat.le_of_ble_eq_true rfl) hdp hb dJ7_getNode_63 (fun v G' h => (wk_sub [(1, vR a1), (3, vR a3), (6, vI x6)] ⟨rfl, rfl, rfl, trivial⟩ (kr v G' h))) kx
theorem blJ7_getNode_60_k26 {w : WD} {j : JB} {r : Nat} {G : GH} {a1 : Option Nat} {a3 : Option Nat} {x6 : Int32} {a7 : Option Nat} {o1 : Nat} {d' b' : Nat} {P : Option WV → GH → Prop} {PX : String → Nat → GH → Prop}
    (e1 : a1 = some o1)
    (hkr : hp_kd G o1 = 26)
    (hC : wk_C w mJ13_equals d' b' [vR (some o1), vR a7] G P PX)
    (hdp : d' + 1 ≤ j.1)
    (hb : b' ≤ r)
    (kr : ∀ v G', P v G' → wk_V w mJ7_getNode j 66 [(1, vR a1), (3, vR a3), (6, vI x6)] (v.toList ++ []) G' (r - b'))
    (kx : ∀ E q G', PX E q G' → wk_T w mJ7_getNode j 63 [(1, vR a1), (3, vR a3), (6, vI x6), (7, vR a7)] G' (r - b') E q)
    : wk_V w mJ7_getNode j 60 [(1, vR a1), (3, vR a3), (6, vI x6), (7, vR a7)] [] G r := by
  refine wk_aload_n 1 dJ7_getNode_60 rfl rfl ?_
  refine wk_aload dJ7_getNode_61 rfl ?_
  refine wk_eAt 1 e1 rfl ?_
  exact wk_callU (n := 1) (x := ⟨"java/lang/Object", "equals", "(Ljava/lang/Object;)Z"⟩) "java/lang/Object" hC rfl (Or.inl (by decide +kernel)) q1047 q1049 q896 (by show Cond.selects (hp_C (hp_kd G o1)) _ _ ∈ lw_all; rw [hkr]; exact q1077) q129 q898 (by decide +kernel) (Nat.le_of_ble_eq_true rfl) ⟨by show hp_kd G o1 ≠ 0; rw [hkr]; decide, by show hp_kd G o1 < 28; rw [hkr]; decide⟩ rfl rfl (Nat.le_of_ble_eq_true rfl) hdp hb dJ7_getNode_63 (fun v G' h => (wk_sub [(1, vR a1), (3, vR a3), (6, vI x6)] ⟨rfl, rfl, rfl, trivial⟩ (kr v G' h))) kx
theorem blJ7_getNode_60_k27 {w : WD} {j : JB} {r : Nat} {G : GH} {a1 : Option Nat} {a3 : Option Nat} {x6 : Int32} {a7 : Option Nat} {o1 : Nat} {d' b' : Nat} {P : Option WV → GH → Prop} {PX : String → Nat → GH → Prop}
    (e1 : a1 = some o1)
    (hkr : hp_kd G o1 = 27)
    (hC : wk_C w mJ28_equals d' b' [vR (some o1), vR a7] G P PX)
    (hdp : d' + 1 ≤ j.1)
    (hb : b' ≤ r)
    (kr : ∀ v G', P v G' → wk_V w mJ7_getNode j 66 [(1, vR a1), (3, vR a3), (6, vI x6)] (v.toList ++ []) G' (r - b'))
    (kx : ∀ E q G', PX E q G' → wk_T w mJ7_getNode j 63 [(1, vR a1), (3, vR a3), (6, vI x6), (7, vR a7)] G' (r - b') E q)
    : wk_V w mJ7_getNode j 60 [(1, vR a1), (3, vR a3), (6, vI x6), (7, vR a7)] [] G r := by
  refine wk_aload_n 1 dJ7_getNode_60 rfl rfl ?_
  refine wk_aload dJ7_getNode_61 rfl ?_
  refine wk_eAt 1 e1 rfl ?_
  exact wk_callU (n := 1) (x := ⟨"java/lang/Object", "equals", "(Ljava/lang/Object;)Z"⟩) "java/lang/Object" hC rfl (Or.inl (by decide +kernel)) q1047 q1049 q1048 (by show Cond.selects (hp_C (hp_kd G o1)) _ _ ∈ lw_all; rw [hkr]; exact q1078) q3225 q1081 (by decide +kernel) (Nat.le_of_ble_eq_true rfl) ⟨by show hp_kd G o1 ≠ 0; rw [hkr]; decide, by show hp_kd G o1 < 28; rw [hkr]; decide⟩ rfl rfl (Nat.le_of_ble_eq_true rfl) hdp hb dJ7_getNode_63 (fun v G' h => (wk_sub [(1, vR a1), (3, vR a3), (6, vI x6)] ⟨rfl, rfl, rfl, trivial⟩ (kr v G' h))) kx
theorem blJ7_getNode_66 {w : WD} {j : JB} {r : Nat} {G : GH} {a1 : Option Nat} {a3 : Option Nat} {x6 : Int32} {s0 : Int32}
    (kt : s0 = 0 → wk_V w mJ7_getNode j 71 [(1, vR a1), (3, vR a3), (6, vI x6)] [] G r)
    (kf : ¬ (s0 = 0) → wk_V w mJ7_getNode j 69 [(3, vR a3)] [] G r)
    : wk_V w mJ7_getNode j 66 [(1, vR a1), (3, vR a3), (6, vI x6)] [vI s0] G r := by
  exact wk_if_eq 71 dJ7_getNode_66 (by decide) (fun h => (kt h)) (fun h => (wk_sub [(3, vR a3)] ⟨rfl, trivial⟩ (kf h)))
theorem blJ7_getNode_69 {w : WD} {j : JB} {r : Nat} {G : GH} {a3 : Option Nat}
    (hP : j.2.2.1 (some (vR a3)) G)
    : wk_V w mJ7_getNode j 69 [(3, vR a3)] [] G r := by
  refine wk_aload_n 3 dJ7_getNode_69 rfl rfl ?_
  exact wk_areturn rfl (Or.inl ⟨_, rfl⟩) dJ7_getNode_70 hP
theorem blJ7_getNode_71 {w : WD} {j : JB} {r : Nat} {G : GH} {a1 : Option Nat} {a3 : Option Nat} {x6 : Int32} {o1 : Nat}
    (e1 : a3 = some o1)
    (hk2 : 24 ≤ hp_kd G o1 ∧ hp_kd G o1 ≤ 25)
    (kt : (hp_r G o1 3) = none → wk_V w mJ7_getNode j 148 [] [] G r)
    (kf : ∀ o9, (hp_r G o1 3) = some o9 → wk_V w mJ7_getNode j 81 [(1, vR a1), (3, vR a3), (4, vR (hp_r G o1 3)), (6, vI x6)] [] G r)
    : wk_V w mJ7_getNode j 71 [(1, vR a1), (3, vR a3), (6, vI x6)] [] G r := by
  refine wk_aload_n 3 dJ7_getNode_71 rfl rfl ?_
  refine wk_e e1 ?_
  refine wk_getR (hp_kd G o1) 3 (flJ7_177 _ hk2.1 hk2.2) (flJ7_177_t _ hk2.1 hk2.2).1 rfl dJ7_getNode_72 ?_
  refine wk_dup dJ7_getNode_75 rfl ?_
  refine wk_astore dJ7_getNode_76 (Nat.le_of_ble_eq_true rfl) ?_
  exact wk_ifnull 148 dJ7_getNode_78 (by decide) (fun h => (wk_sub [] trivial (kt h))) (fun o9 h => (kf o9 h))
theorem blJ7_getNode_81 {w : WD} {j : JB} {r : Nat} {G : GH} {a1 : Option Nat} {a3 : Option Nat} {a4 : Option Nat} {x6 : Int32} {v1 : Int32}
    (hc2 : hp_inst G a3 "java/util/HashMap$TreeNode" v1)
    (kt : v1 = 0 → wk_V w mJ7_getNode j 99 [(1, vR a1), (4, vR a4), (6, vI x6)] [] G r)
    (kf : ¬ (v1 = 0) → wk_V w mJ7_getNode j 88 [(1, vR a1), (3, vR a3), (6, vI x6)] [] G r)
    : wk_V w mJ7_getNode j 81 [(1, vR a1), (3, vR a3), (4, vR a4), (6, vI x6)] [] G r := by
  refine wk_aload_n 3 dJ7_getNode_81 rfl rfl ?_
  refine wk_instQ q1082 hc2 dJ7_getNode_82 ?_
  exact wk_if_eq 99 dJ7_getNode_85 (by decide) (fun h => (wk_sub [(1, vR a1), (4, vR a4), (6, vI x6)] ⟨rfl, rfl, rfl, trivial⟩ (kt h))) (fun h => (wk_sub [(1, vR a1), (3, vR a3), (6, vI x6)] ⟨rfl, rfl, rfl, trivial⟩ (kf h)))
theorem blJ7_getNode_88 {w : WD} {j : JB} {r : Nat} {G : GH} {a1 : Option Nat} {a3 : Option Nat} {x6 : Int32} {o2 : Nat} {d' b' : Nat} {P : Option WV → GH → Prop} {PX : String → Nat → GH → Prop}
    (hc1 : ∀ a, a3 = some a → hp_kd G a ≠ 0 ∧ hp_kd G a < 28 ∧ hp_sub (hp_kd G a) "java/util/HashMap$TreeNode")
    (e2 : a3 = some o2)
    (hkr : hp_kd G o2 = 25)
    (hC : wk_C w mJ26_getTreeNode d' b' [vR (some o2), vI x6, vR a1] G P PX)
    (hdp : d' + 1 ≤ j.1)
    (hb : b' ≤ r)
    (kr : ∀ v G', P v G' → wk_V w mJ7_getNode j 98 [] (v.toList ++ []) G' (r - b'))
    (kx : ∀ E q G', PX E q G' → wk_T w mJ7_getNode j 95 [(1, vR a1), (3, vR a3), (6, vI x6)] G' (r - b') E q)
    : wk_V w mJ7_getNode j 88 [(1, vR a1), (3, vR a3), (6, vI x6)] [] G r := by
  refine wk_aload_n 3 dJ7_getNode_88 rfl rfl ?_
  refine wk_castQ q1082 hc1 dJ7_getNode_89 ?_
  refine wk_iload dJ7_getNode_92 rfl ?_
  refine wk_aload_n 1 dJ7_getNode_94 rfl rfl ?_
  refine wk_eAt 2 e2 rfl ?_
  exact wk_callV hC rfl q1083 q1084 q1085 q149 q1086 mdJ26_getTreeNode (Nat.le_of_ble_eq_true rfl) ⟨by show hp_kd G o2 ≠ 0; rw [hkr]; decide, by show hp_kd G o2 < 28; rw [hkr]; decide, by show hp_C (hp_kd G o2) = _; rw [hkr]; rfl⟩ rfl rfl (Nat.le_of_ble_eq_true rfl) hdp hb dJ7_getNode_95 (fun v G' h => (wk_sub [] trivial (kr v G' h))) kx
theorem blJ7_getNode_98 {w : WD} {j : JB} {r : Nat} {G : GH} {sa0 : Option Nat}
    (hP : j.2.2.1 (some (vR sa0)) G)
    : wk_V w mJ7_getNode j 98 [] [vR sa0] G r := by
  exact wk_areturn rfl (Or.inl ⟨_, rfl⟩) dJ7_getNode_98 hP
theorem blJ7_getNode_99 {w : WD} {j : JB} {r : Nat} {G : GH} {a1 : Option Nat} {a4 : Option Nat} {x6 : Int32} {o1 : Nat}
    (e1 : a4 = some o1)
    (hk2 : 24 ≤ hp_kd G o1 ∧ hp_kd G o1 ≤ 25)
    (kt : ¬ ((hp_i G o1 0) = x6) → wk_V w mJ7_getNode j 137 [(1, vR a1), (4, vR a4), (6, vI x6)] [] G r)
    (kf : (hp_i G o1 0) = x6 → wk_V w mJ7_getNode j 109 [(1, vR a1), (4, vR a4), (6, vI x6)] [] G r)
    : wk_V w mJ7_getNode j 99 [(1, vR a1), (4, vR a4), (6, vI x6)] [] G r := by
  refine wk_aload dJ7_getNode_99 rfl ?_
  refine wk_e e1 ?_
  refine wk_getI (hp_kd G o1) 0 (flJ7_168 _ hk2.1 hk2.2) (flJ7_168_t _ hk2.1 hk2.2).1 rfl dJ7_getNode_101 ?_
  refine wk_iload dJ7_getNode_104 rfl ?_
  exact wk_icmp_ne 137 dJ7_getNode_106 (by decide) (fun h => (kt h)) (fun h => (kf h))
theorem blJ7_getNode_109 {w : WD} {j : JB} {r : Nat} {G : GH} {a1 : Option Nat} {a4 : Option Nat} {x6 : Int32} {o1 : Nat}
    (e1 : a4 = some o1)
    (hk2 : 24 ≤ hp_kd G o1 ∧ hp_kd G o1 ≤ 25)
    (kt : (hp_r G o1 1) = a1 → wk_V w mJ7_getNode j 134 [(4, vR a4)] [] G r)
    (kf : ¬ ((hp_r G o1 1) = a1) → wk_V w mJ7_getNode j 121 [(1, vR a1), (4, vR a4), (6, vI x6), (7, vR (hp_r G o1 1))] [] G r)
    : wk_V w mJ7_getNode j 109 [(1, vR a1), (4, vR a4), (6, vI x6)] [] G r := by
  refine wk_aload dJ7_getNode_109 rfl ?_
  refine wk_e e1 ?_
  refine wk_getR (hp_kd G o1) 1 (flJ7_170 _ hk2.1 hk2.2) (flJ7_170_t _ hk2.1 hk2.2).1 rfl dJ7_getNode_111 ?_
  refine wk_dup dJ7_getNode_114 rfl ?_
  refine wk_astore dJ7_getNode_115 (Nat.le_of_ble_eq_true rfl) ?_
  refine wk_aload_n 1 dJ7_getNode_117 rfl rfl ?_
  exact wk_acmp_eq 134 dJ7_getNode_118 (by decide) (fun h => (wk_sub [(4, vR a4)] ⟨rfl, trivial⟩ (kt h))) (fun h => (kf h))
theorem blJ7_getNode_121 {w : WD} {j : JB} {r : Nat} {G : GH} {a1 : Option Nat} {a4 : Option Nat} {x6 : Int32} {a7 : Option Nat}
    (kt : a1 = none → wk_V w mJ7_getNode j 137 [(1, vR a1), (4, vR a4), (6, vI x6)] [] G r)
    (kf : ∀ o9, a1 = some o9 → wk_V w mJ7_getNode j 125 [(1, vR a1), (4, vR a4), (6, vI x6), (7, vR a7)] [] G r)
    : wk_V w mJ7_getNode j 121 [(1, vR a1), (4, vR a4), (6, vI x6), (7, vR a7)] [] G r := by
  refine wk_aload_n 1 dJ7_getNode_121 rfl rfl ?_
  exact wk_ifnull 137 dJ7_getNode_122 (by decide) (fun h => (wk_sub [(1, vR a1), (4, vR a4), (6, vI x6)] ⟨rfl, rfl, rfl, trivial⟩ (kt h))) (fun o9 h => (kf o9 h))
theorem blJ7_getNode_125_k2 {w : WD} {j : JB} {r : Nat} {G : GH} {a1 : Option Nat} {a4 : Option Nat} {x6 : Int32} {a7 : Option Nat} {o1 : Nat} {d' b' : Nat} {P : Option WV → GH → Prop} {PX : String → Nat → GH → Prop}
    (e1 : a1 = some o1)
    (hkr : hp_kd G o1 = 2)
    (hC : wk_C w mJ28_equals d' b' [vR (some o1), vR a7] G P PX)
    (hdp : d' + 1 ≤ j.1)
    (hb : b' ≤ r)
    (kr : ∀ v G', P v G' → wk_V w mJ7_getNode j 131 [(1, vR a1), (4, vR a4), (6, vI x6)] (v.toList ++ []) G' (r - b'))
    (kx : ∀ E q G', PX E q G' → wk_T w mJ7_getNode j 128 [(1, vR a1), (4, vR a4), (6, vI x6), (7, vR a7)] G' (r - b') E q)
    : wk_V w mJ7_getNode j 125 [(1, vR a1), (4, vR a4), (6, vI x6), (7, vR a7)] [] G r := by
  refine wk_aload_n 1 dJ7_getNode_125 rfl rfl ?_
  refine wk_aload dJ7_getNode_126 rfl ?_
  refine wk_eAt 1 e1 rfl ?_
  exact wk_callU (n := 1) (x := ⟨"java/lang/Object", "equals", "(Ljava/lang/Object;)Z"⟩) "java/lang/Object" hC rfl (Or.inl (by decide +kernel)) q1047 q1049 q1048 (by show Cond.selects (hp_C (hp_kd G o1)) _ _ ∈ lw_all; rw [hkr]; exact q1050) q3225 q1081 (by decide +kernel) (Nat.le_of_ble_eq_true rfl) ⟨by show hp_kd G o1 ≠ 0; rw [hkr]; decide, by show hp_kd G o1 < 28; rw [hkr]; decide⟩ rfl rfl (Nat.le_of_ble_eq_true rfl) hdp hb dJ7_getNode_128 (fun v G' h => (wk_sub [(1, vR a1), (4, vR a4), (6, vI x6)] ⟨rfl, rfl, rfl, trivial⟩ (kr v G' h))) kx
theorem blJ7_getNode_125_k5 {w : WD} {j : JB} {r : Nat} {G : GH} {a1 : Option Nat} {a4 : Option Nat} {x6 : Int32} {a7 : Option Nat} {o1 : Nat} {d' b' : Nat} {P : Option WV → GH → Prop} {PX : String → Nat → GH → Prop}
    (e1 : a1 = some o1)
    (hkr : hp_kd G o1 = 5)
    (hC : wk_C w mJ28_equals d' b' [vR (some o1), vR a7] G P PX)
    (hdp : d' + 1 ≤ j.1)
    (hb : b' ≤ r)
    (kr : ∀ v G', P v G' → wk_V w mJ7_getNode j 131 [(1, vR a1), (4, vR a4), (6, vI x6)] (v.toList ++ []) G' (r - b'))
    (kx : ∀ E q G', PX E q G' → wk_T w mJ7_getNode j 128 [(1, vR a1), (4, vR a4), (6, vI x6), (7, vR a7)] G' (r - b') E q)
    : wk_V w mJ7_getNode j 125 [(1, vR a1), (4, vR a4), (6, vI x6), (7, vR a7)] [] G r := by
  refine wk_aload_n 1 dJ7_getNode_125 rfl rfl ?_
  refine wk_aload dJ7_getNode_126 rfl ?_
  refine wk_eAt 1 e1 rfl ?_
  exact wk_callU (n := 1) (x := ⟨"java/lang/Object", "equals", "(Ljava/lang/Object;)Z"⟩) "java/lang/Object" hC rfl (Or.inl (by decide +kernel)) q1047 q1049 q1048 (by show Cond.selects (hp_C (hp_kd G o1)) _ _ ∈ lw_all; rw [hkr]; exact q1051) q3225 q1081 (by decide +kernel) (Nat.le_of_ble_eq_true rfl) ⟨by show hp_kd G o1 ≠ 0; rw [hkr]; decide, by show hp_kd G o1 < 28; rw [hkr]; decide⟩ rfl rfl (Nat.le_of_ble_eq_true rfl) hdp hb dJ7_getNode_128 (fun v G' h => (wk_sub [(1, vR a1), (4, vR a4), (6, vI x6)] ⟨rfl, rfl, rfl, trivial⟩ (kr v G' h))) kx
theorem blJ7_getNode_125_k18 {w : WD} {j : JB} {r : Nat} {G : GH} {a1 : Option Nat} {a4 : Option Nat} {x6 : Int32} {a7 : Option Nat} {o1 : Nat} {d' b' : Nat} {P : Option WV → GH → Prop} {PX : String → Nat → GH → Prop}
    (e1 : a1 = some o1)
    (hkr : hp_kd G o1 = 18)
    (hC : wk_C w mJ28_equals d' b' [vR (some o1), vR a7] G P PX)
    (hdp : d' + 1 ≤ j.1)
    (hb : b' ≤ r)
    (kr : ∀ v G', P v G' → wk_V w mJ7_getNode j 131 [(1, vR a1), (4, vR a4), (6, vI x6)] (v.toList ++ []) G' (r - b'))
    (kx : ∀ E q G', PX E q G' → wk_T w mJ7_getNode j 128 [(1, vR a1), (4, vR a4), (6, vI x6), (7, vR a7)] G' (r - b') E q)
    : wk_V w mJ7_getNode j 125 [(1, vR a1), (4, vR a4), (6, vI x6), (7, vR a7)] [] G r := by
  refine wk_aload_n 1 dJ7_getNode_125 rfl rfl ?_
  refine wk_aload dJ7_getNode_126 rfl ?_
  refine wk_eAt 1 e1 rfl ?_
  exact wk_callU (n := 1) (x := ⟨"java/lang/Object", "equals", "(Ljava/lang/Object;)Z"⟩) "java/lang/Object" hC rfl (Or.inl (by decide +kernel)) q1047 q1049 q1048 (by show Cond.selects (hp_C (hp_kd G o1)) _ _ ∈ lw_all; rw [hkr]; exact q1052) q3225 q1081 (by decide +kernel) (Nat.le_of_ble_eq_true rfl) ⟨by show hp_kd G o1 ≠ 0; rw [hkr]; decide, by show hp_kd G o1 < 28; rw [hkr]; decide⟩ rfl rfl (Nat.le_of_ble_eq_true rfl) hdp hb dJ7_getNode_128 (fun v G' h => (wk_sub [(1, vR a1), (4, vR a4), (6, vI x6)] ⟨rfl, rfl, rfl, trivial⟩ (kr v G' h))) kx
theorem blJ7_getNode_125_k21 {w : WD} {j : JB} {r : Nat} {G : GH} {a1 : Option Nat} {a4 : Option Nat} {x6 : Int32} {a7 : Option Nat} {o1 : Nat} {d' b' : Nat} {P : Option WV → GH → Prop} {PX : String → Nat → GH → Prop}
    (e1 : a1 = some o1)
    (hkr : hp_kd G o1 = 21)
    (hC : wk_C w mJ28_equals d' b' [vR (some o1), vR a7] G P PX)
    (hdp : d' + 1 ≤ j.1)
    (hb : b' ≤ r)
    (kr : ∀ v G', P v G' → wk_V w mJ7_getNode j 131 [(1, vR a1), (4, vR a4), (6, vI x6)] (v.toList ++ []) G' (r - b'))
    (kx : ∀ E q G', PX E q G' → wk_T w mJ7_getNode j 128 [(1, vR a1), (4, vR a4), (6, vI x6), (7, vR a7)] G' (r - b') E q)
    : wk_V w mJ7_getNode j 125 [(1, vR a1), (4, vR a4), (6, vI x6), (7, vR a7)] [] G r := by
  refine wk_aload_n 1 dJ7_getNode_125 rfl rfl ?_
  refine wk_aload dJ7_getNode_126 rfl ?_
  refine wk_eAt 1 e1 rfl ?_
  exact wk_callU (n := 1) (x := ⟨"java/lang/Object", "equals", "(Ljava/lang/Object;)Z"⟩) "java/lang/Object" hC rfl (Or.inl (by decide +kernel)) q1047 q1049 q1048 (by show Cond.selects (hp_C (hp_kd G o1)) _ _ ∈ lw_all; rw [hkr]; exact q1053) q3225 q1081 (by decide +kernel) (Nat.le_of_ble_eq_true rfl) ⟨by show hp_kd G o1 ≠ 0; rw [hkr]; decide, by show hp_kd G o1 < 28; rw [hkr]; decide⟩ rfl rfl (Nat.le_of_ble_eq_true rfl) hdp hb dJ7_getNode_128 (fun v G' h => (wk_sub [(1, vR a1), (4, vR a4), (6, vI x6)] ⟨rfl, rfl, rfl, trivial⟩ (kr v G' h))) kx
theorem blJ7_getNode_125_k16 {w : WD} {j : JB} {r : Nat} {G : GH} {a1 : Option Nat} {a4 : Option Nat} {x6 : Int32} {a7 : Option Nat} {o1 : Nat} {d' b' : Nat} {P : Option WV → GH → Prop} {PX : String → Nat → GH → Prop}
    (e1 : a1 = some o1)
    (hkr : hp_kd G o1 = 16)
    (hC : wk_C w mJ28_equals d' b' [vR (some o1), vR a7] G P PX)
    (hdp : d' + 1 ≤ j.1)
    (hb : b' ≤ r)
    (kr : ∀ v G', P v G' → wk_V w mJ7_getNode j 131 [(1, vR a1), (4, vR a4), (6, vI x6)] (v.toList ++ []) G' (r - b'))
    (kx : ∀ E q G', PX E q G' → wk_T w mJ7_getNode j 128 [(1, vR a1), (4, vR a4), (6, vI x6), (7, vR a7)] G' (r - b') E q)
    : wk_V w mJ7_getNode j 125 [(1, vR a1), (4, vR a4), (6, vI x6), (7, vR a7)] [] G r := by
  refine wk_aload_n 1 dJ7_getNode_125 rfl rfl ?_
  refine wk_aload dJ7_getNode_126 rfl ?_
  refine wk_eAt 1 e1 rfl ?_
  exact wk_callU (n := 1) (x := ⟨"java/lang/Object", "equals", "(Ljava/lang/Object;)Z"⟩) "java/lang/Object" hC rfl (Or.inl (by decide +kernel)) q1047 q1049 q1048 (by show Cond.selects (hp_C (hp_kd G o1)) _ _ ∈ lw_all; rw [hkr]; exact q1054) q3225 q1081 (by decide +kernel) (Nat.le_of_ble_eq_true rfl) ⟨by show hp_kd G o1 ≠ 0; rw [hkr]; decide, by show hp_kd G o1 < 28; rw [hkr]; decide⟩ rfl rfl (Nat.le_of_ble_eq_true rfl) hdp hb dJ7_getNode_128 (fun v G' h => (wk_sub [(1, vR a1), (4, vR a4), (6, vI x6)] ⟨rfl, rfl, rfl, trivial⟩ (kr v G' h))) kx
theorem blJ7_getNode_125_k13 {w : WD} {j : JB} {r : Nat} {G : GH} {a1 : Option Nat} {a4 : Option Nat} {x6 : Int32} {a7 : Option Nat} {o1 : Nat} {d' b' : Nat} {P : Option WV → GH → Prop} {PX : String → Nat → GH → Prop}
    (e1 : a1 = some o1)
    (hkr : hp_kd G o1 = 13)
    (hC : wk_C w mJ28_equals d' b' [vR (some o1), vR a7] G P PX)
    (hdp : d' + 1 ≤ j.1)
    (hb : b' ≤ r)
    (kr : ∀ v G', P v G' → wk_V w mJ7_getNode j 131 [(1, vR a1), (4, vR a4), (6, vI x6)] (v.toList ++ []) G' (r - b'))
    (kx : ∀ E q G', PX E q G' → wk_T w mJ7_getNode j 128 [(1, vR a1), (4, vR a4), (6, vI x6), (7, vR a7)] G' (r - b') E q)
    : wk_V w mJ7_getNode j 125 [(1, vR a1), (4, vR a4), (6, vI x6), (7, vR a7)] [] G r := by
  refine wk_aload_n 1 dJ7_getNode_125 rfl rfl ?_
  refine wk_aload dJ7_getNode_126 rfl ?_
  refine wk_eAt 1 e1 rfl ?_
  exact wk_callU (n := 1) (x := ⟨"java/lang/Object", "equals", "(Ljava/lang/Object;)Z"⟩) "java/lang/Object" hC rfl (Or.inl (by decide +kernel)) q1047 q1049 q1048 (by show Cond.selects (hp_C (hp_kd G o1)) _ _ ∈ lw_all; rw [hkr]; exact q1055) q3225 q1081 (by decide +kernel) (Nat.le_of_ble_eq_true rfl) ⟨by show hp_kd G o1 ≠ 0; rw [hkr]; decide, by show hp_kd G o1 < 28; rw [hkr]; decide⟩ rfl rfl (Nat.le_of_ble_eq_true rfl) hdp hb dJ7_getNode_128 (fun v G' h => (wk_sub [(1, vR a1), (4, vR a4), (6, vI x6)] ⟨rfl, rfl, rfl, trivial⟩ (kr v G' h))) kx
theorem blJ7_getNode_125_k20 {w : WD} {j : JB} {r : Nat} {G : GH} {a1 : Option Nat} {a4 : Option Nat} {x6 : Int32} {a7 : Option Nat} {o1 : Nat} {d' b' : Nat} {P : Option WV → GH → Prop} {PX : String → Nat → GH → Prop}
    (e1 : a1 = some o1)
    (hkr : hp_kd G o1 = 20)
    (hC : wk_C w mJ28_equals d' b' [vR (some o1), vR a7] G P PX)
    (hdp : d' + 1 ≤ j.1)
    (hb : b' ≤ r)
    (kr : ∀ v G', P v G' → wk_V w mJ7_getNode j 131 [(1, vR a1), (4, vR a4), (6, vI x6)] (v.toList ++ []) G' (r - b'))
    (kx : ∀ E q G', PX E q G' → wk_T w mJ7_getNode j 128 [(1, vR a1), (4, vR a4), (6, vI x6), (7, vR a7)] G' (r - b') E q)
    : wk_V w mJ7_getNode j 125 [(1, vR a1), (4, vR a4), (6, vI x6), (7, vR a7)] [] G r := by
  refine wk_aload_n 1 dJ7_getNode_125 rfl rfl ?_
  refine wk_aload dJ7_getNode_126 rfl ?_
  refine wk_eAt 1 e1 rfl ?_
  exact wk_callU (n := 1) (x := ⟨"java/lang/Object", "equals", "(Ljava/lang/Object;)Z"⟩) "java/lang/Object" hC rfl (Or.inl (by decide +kernel)) q1047 q1049 q1048 (by show Cond.selects (hp_C (hp_kd G o1)) _ _ ∈ lw_all; rw [hkr]; exact q1056) q3225 q1081 (by decide +kernel) (Nat.le_of_ble_eq_true rfl) ⟨by show hp_kd G o1 ≠ 0; rw [hkr]; decide, by show hp_kd G o1 < 28; rw [hkr]; decide⟩ rfl rfl (Nat.le_of_ble_eq_true rfl) hdp hb dJ7_getNode_128 (fun v G' h => (wk_sub [(1, vR a1), (4, vR a4), (6, vI x6)] ⟨rfl, rfl, rfl, trivial⟩ (kr v G' h))) kx
theorem blJ7_getNode_125_k7 {w : WD} {j : JB} {r : Nat} {G : GH} {a1 : Option Nat} {a4 : Option Nat} {x6 : Int32} {a7 : Option Nat} {o1 : Nat} {d' b' : Nat} {P : Option WV → GH → Prop} {PX : String → Nat → GH → Prop}
    (e1 : a1 = some o1)
    (hkr : hp_kd G o1 = 7)
    (hC : wk_C w mJ28_equals d' b' [vR (some o1), vR a7] G P PX)
    (hdp : d' + 1 ≤ j.1)
    (hb : b' ≤ r)
    (kr : ∀ v G', P v G' → wk_V w mJ7_getNode j 131 [(1, vR a1), (4, vR a4), (6, vI x6)] (v.toList ++ []) G' (r - b'))
    (kx : ∀ E q G', PX E q G' → wk_T w mJ7_getNode j 128 [(1, vR a1), (4, vR a4), (6, vI x6), (7, vR a7)] G' (r - b') E q)
    : wk_V w mJ7_getNode j 125 [(1, vR a1), (4, vR a4), (6, vI x6), (7, vR a7)] [] G r := by
  refine wk_aload_n 1 dJ7_getNode_125 rfl rfl ?_
  refine wk_aload dJ7_getNode_126 rfl ?_
  refine wk_eAt 1 e1 rfl ?_
  exact wk_callU (n := 1) (x := ⟨"java/lang/Object", "equals", "(Ljava/lang/Object;)Z"⟩) "java/lang/Object" hC rfl (Or.inl (by decide +kernel)) q1047 q1049 q1048 (by show Cond.selects (hp_C (hp_kd G o1)) _ _ ∈ lw_all; rw [hkr]; exact q1057) q3225 q1081 (by decide +kernel) (Nat.le_of_ble_eq_true rfl) ⟨by show hp_kd G o1 ≠ 0; rw [hkr]; decide, by show hp_kd G o1 < 28; rw [hkr]; decide⟩ rfl rfl (Nat.le_of_ble_eq_true rfl) hdp hb dJ7_getNode_128 (fun v G' h => (wk_sub [(1, vR a1), (4, vR a4), (6, vI x6)] ⟨rfl, rfl, rfl, trivial⟩ (kr v G' h))) kx
theorem blJ7_getNode_125_k17 {w : WD} {j : JB} {r : Nat} {G : GH} {a1 : Option Nat} {a4 : Option Nat} {x6 : Int32} {a7 : Option Nat} {o1 : Nat} {d' b' : Nat} {P : Option WV → GH → Prop} {PX : String → Nat → GH → Prop}
    (e1 : a1 = some o1)
    (hkr : hp_kd G o1 = 17)
    (hC : wk_C w mJ28_equals d' b' [vR (some o1), vR a7] G P PX)
    (hdp : d' + 1 ≤ j.1)
    (hb : b' ≤ r)
    (kr : ∀ v G', P v G' → wk_V w mJ7_getNode j 131 [(1, vR a1), (4, vR a4), (6, vI x6)] (v.toList ++ []) G' (r - b'))
    (kx : ∀ E q G', PX E q G' → wk_T w mJ7_getNode j 128 [(1, vR a1), (4, vR a4), (6, vI x6), (7, vR a7)] G' (r - b') E q)
    : wk_V w mJ7_getNode j 125 [(1, vR a1), (4, vR a4), (6, vI x6), (7, vR a7)] [] G r := by
  refine wk_aload_n 1 dJ7_getNode_125 rfl rfl ?_
  refine wk_aload dJ7_getNode_126 rfl ?_
  refine wk_eAt 1 e1 rfl ?_
  exact wk_callU (n := 1) (x := ⟨"java/lang/Object", "equals", "(Ljava/lang/Object;)Z"⟩) "java/lang/Object" hC rfl (Or.inl (by decide +kernel)) q1047 q1049 q1048 (by show Cond.selects (hp_C (hp_kd G o1)) _ _ ∈ lw_all; rw [hkr]; exact q1058) q3225 q1081 (by decide +kernel) (Nat.le_of_ble_eq_true rfl) ⟨by show hp_kd G o1 ≠ 0; rw [hkr]; decide, by show hp_kd G o1 < 28; rw [hkr]; decide⟩ rfl rfl (Nat.le_of_ble_eq_true rfl) hdp hb dJ7_getNode_128 (fun v G' h => (wk_sub [(1, vR a1), (4, vR a4), (6, vI x6)] ⟨rfl, rfl, rfl, trivial⟩ (kr v G' h))) kx
theorem blJ7_getNode_125_k9 {w : WD} {j : JB} {r : Nat} {G : GH} {a1 : Option Nat} {a4 : Option Nat} {x6 : Int32} {a7 : Option Nat} {o1 : Nat} {d' b' : Nat} {P : Option WV → GH → Prop} {PX : String → Nat → GH → Prop}
    (e1 : a1 = some o1)
    (hkr : hp_kd G o1 = 9)
    (hC : wk_C w mJ28_equals d' b' [vR (some o1), vR a7] G P PX)
    (hdp : d' + 1 ≤ j.1)
    (hb : b' ≤ r)
    (kr : ∀ v G', P v G' → wk_V w mJ7_getNode j 131 [(1, vR a1), (4, vR a4), (6, vI x6)] (v.toList ++ []) G' (r - b'))
    (kx : ∀ E q G', PX E q G' → wk_T w mJ7_getNode j 128 [(1, vR a1), (4, vR a4), (6, vI x6), (7, vR a7)] G' (r - b') E q)
    : wk_V w mJ7_getNode j 125 [(1, vR a1), (4, vR a4), (6, vI x6), (7, vR a7)] [] G r := by
  refine wk_aload_n 1 dJ7_getNode_125 rfl rfl ?_
  refine wk_aload dJ7_getNode_126 rfl ?_
  refine wk_eAt 1 e1 rfl ?_
  exact wk_callU (n := 1) (x := ⟨"java/lang/Object", "equals", "(Ljava/lang/Object;)Z"⟩) "java/lang/Object" hC rfl (Or.inl (by decide +kernel)) q1047 q1049 q1048 (by show Cond.selects (hp_C (hp_kd G o1)) _ _ ∈ lw_all; rw [hkr]; exact q1059) q3225 q1081 (by decide +kernel) (Nat.le_of_ble_eq_true rfl) ⟨by show hp_kd G o1 ≠ 0; rw [hkr]; decide, by show hp_kd G o1 < 28; rw [hkr]; decide⟩ rfl rfl (Nat.le_of_ble_eq_true rfl) hdp hb dJ7_getNode_128 (fun v G' h => (wk_sub [(1, vR a1), (4, vR a4), (6, vI x6)] ⟨rfl, rfl, rfl, trivial⟩ (kr v G' h))) kx
theorem blJ7_getNode_125_k11 {w : WD} {j : JB} {r : Nat} {G : GH} {a1 : Option Nat} {a4 : Option Nat} {x6 : Int32} {a7 : Option Nat} {o1 : Nat} {d' b' : Nat} {P : Option WV → GH → Prop} {PX : String → Nat → GH → Prop}
    (e1 : a1 = some o1)
    (hkr : hp_kd G o1 = 11)
    (hC : wk_C w mJ28_equals d' b' [vR (some o1), vR a7] G P PX)
    (hdp : d' + 1 ≤ j.1)
    (hb : b' ≤ r)
    (kr : ∀ v G', P v G' → wk_V w mJ7_getNode j 131 [(1, vR a1), (4, vR a4), (6, vI x6)] (v.toList ++ []) G' (r - b'))
    (kx : ∀ E q G', PX E q G' → wk_T w mJ7_getNode j 128 [(1, vR a1), (4, vR a4), (6, vI x6), (7, vR a7)] G' (r - b') E q)
    : wk_V w mJ7_getNode j 125 [(1, vR a1), (4, vR a4), (6, vI x6), (7, vR a7)] [] G r := by
  refine wk_aload_n 1 dJ7_getNode_125 rfl rfl ?_
  refine wk_aload dJ7_getNode_126 rfl ?_
  refine wk_eAt 1 e1 rfl ?_
  exact wk_callU (n := 1) (x := ⟨"java/lang/Object", "equals", "(Ljava/lang/Object;)Z"⟩) "java/lang/Object" hC rfl (Or.inl (by decide +kernel)) q1047 q1049 q1048 (by show Cond.selects (hp_C (hp_kd G o1)) _ _ ∈ lw_all; rw [hkr]; exact q1060) q3225 q1081 (by decide +kernel) (Nat.le_of_ble_eq_true rfl) ⟨by show hp_kd G o1 ≠ 0; rw [hkr]; decide, by show hp_kd G o1 < 28; rw [hkr]; decide⟩ rfl rfl (Nat.le_of_ble_eq_true rfl) hdp hb dJ7_getNode_128 (fun v G' h => (wk_sub [(1, vR a1), (4, vR a4), (6, vI x6)] ⟨rfl, rfl, rfl, trivial⟩ (kr v G' h))) kx
theorem blJ7_getNode_125_k14 {w : WD} {j : JB} {r : Nat} {G : GH} {a1 : Option Nat} {a4 : Option Nat} {x6 : Int32} {a7 : Option Nat} {o1 : Nat} {d' b' : Nat} {P : Option WV → GH → Prop} {PX : String → Nat → GH → Prop}
    (e1 : a1 = some o1)
    (hkr : hp_kd G o1 = 14)
    (hC : wk_C w mJ28_equals d' b' [vR (some o1), vR a7] G P PX)
    (hdp : d' + 1 ≤ j.1)
    (hb : b' ≤ r)
    (kr : ∀ v G', P v G' → wk_V w mJ7_getNode j 131 [(1, vR a1), (4, vR a4), (6, vI x6)] (v.toList ++ []) G' (r - b'))
    (kx : ∀ E q G', PX E q G' → wk_T w mJ7_getNode j 128 [(1, vR a1), (4, vR a4), (6, vI x6), (7, vR a7)] G' (r - b') E q)
    : wk_V w mJ7_getNode j 125 [(1, vR a1), (4, vR a4), (6, vI x6), (7, vR a7)] [] G r := by
  refine wk_aload_n 1 dJ7_getNode_125 rfl rfl ?_
  refine wk_aload dJ7_getNode_126 rfl ?_
  refine wk_eAt 1 e1 rfl ?_
  exact wk_callU (n := 1) (x := ⟨"java/lang/Object", "equals", "(Ljava/lang/Object;)Z"⟩) "java/lang/Object" hC rfl (Or.inl (by decide +kernel)) q1047 q1049 q1048 (by show Cond.selects (hp_C (hp_kd G o1)) _ _ ∈ lw_all; rw [hkr]; exact q1061) q3225 q1081 (by decide +kernel) (Nat.le_of_ble_eq_true rfl) ⟨by show hp_kd G o1 ≠ 0; rw [hkr]; decide, by show hp_kd G o1 < 28; rw [hkr]; decide⟩ rfl rfl (Nat.le_of_ble_eq_true rfl) hdp hb dJ7_getNode_128 (fun v G' h => (wk_sub [(1, vR a1), (4, vR a4), (6, vI x6)] ⟨rfl, rfl, rfl, trivial⟩ (kr v G' h))) kx
theorem blJ7_getNode_125_k8 {w : WD} {j : JB} {r : Nat} {G : GH} {a1 : Option Nat} {a4 : Option Nat} {x6 : Int32} {a7 : Option Nat} {o1 : Nat} {d' b' : Nat} {P : Option WV → GH → Prop} {PX : String → Nat → GH → Prop}
    (e1 : a1 = some o1)
    (hkr : hp_kd G o1 = 8)
    (hC : wk_C w mJ28_equals d' b' [vR (some o1), vR a7] G P PX)
    (hdp : d' + 1 ≤ j.1)
    (hb : b' ≤ r)
    (kr : ∀ v G', P v G' → wk_V w mJ7_getNode j 131 [(1, vR a1), (4, vR a4), (6, vI x6)] (v.toList ++ []) G' (r - b'))
    (kx : ∀ E q G', PX E q G' → wk_T w mJ7_getNode j 128 [(1, vR a1), (4, vR a4), (6, vI x6), (7, vR a7)] G' (r - b') E q)
    : wk_V w mJ7_getNode j 125 [(1, vR a1), (4, vR a4), (6, vI x6), (7, vR a7)] [] G r := by
  refine wk_aload_n 1 dJ7_getNode_125 rfl rfl ?_
  refine wk_aload dJ7_getNode_126 rfl ?_
  refine wk_eAt 1 e1 rfl ?_
  exact wk_callU (n := 1) (x := ⟨"java/lang/Object", "equals", "(Ljava/lang/Object;)Z"⟩) "java/lang/Object" hC rfl (Or.inl (by decide +kernel)) q1047 q1049 q1048 (by show Cond.selects (hp_C (hp_kd G o1)) _ _ ∈ lw_all; rw [hkr]; exact q1062) q3225 q1081 (by decide +kernel) (Nat.le_of_ble_eq_true rfl) ⟨by show hp_kd G o1 ≠ 0; rw [hkr]; decide, by show hp_kd G o1 < 28; rw [hkr]; decide⟩ rfl rfl (Nat.le_of_ble_eq_true rfl) hdp hb dJ7_getNode_128 (fun v G' h => (wk_sub [(1, vR a1), (4, vR a4), (6, vI x6)] ⟨rfl, rfl, rfl, trivial⟩ (kr v G' h))) kx
theorem blJ7_getNode_125_k10 {w : WD} {j : JB} {r : Nat} {G : GH} {a1 : Option Nat} {a4 : Option Nat} {x6 : Int32} {a7 : Option Nat} {o1 : Nat} {d' b' : Nat} {P : Option WV → GH → Prop} {PX : String → Nat → GH → Prop}
    (e1 : a1 = some o1)
    (hkr : hp_kd G o1 = 10)
    (hC : wk_C w mJ28_equals d' b' [vR (some o1), vR a7] G P PX)
    (hdp : d' + 1 ≤ j.1)
    (hb : b' ≤ r)
    (kr : ∀ v G', P v G' → wk_V w mJ7_getNode j 131 [(1, vR a1), (4, vR a4), (6, vI x6)] (v.toList ++ []) G' (r - b'))
    (kx : ∀ E q G', PX E q G' → wk_T w mJ7_getNode j 128 [(1, vR a1), (4, vR a4), (6, vI x6), (7, vR a7)] G' (r - b') E q)
    : wk_V w mJ7_getNode j 125 [(1, vR a1), (4, vR a4), (6, vI x6), (7, vR a7)] [] G r := by
  refine wk_aload_n 1 dJ7_getNode_125 rfl rfl ?_
  refine wk_aload dJ7_getNode_126 rfl ?_
  refine wk_eAt 1 e1 rfl ?_
  exact wk_callU (n := 1) (x := ⟨"java/lang/Object", "equals", "(Ljava/lang/Object;)Z"⟩) "java/lang/Object" hC rfl (Or.inl (by decide +kernel)) q1047 q1049 q1048 (by show Cond.selects (hp_C (hp_kd G o1)) _ _ ∈ lw_all; rw [hkr]; exact q1063) q3225 q1081 (by decide +kernel) (Nat.le_of_ble_eq_true rfl) ⟨by show hp_kd G o1 ≠ 0; rw [hkr]; decide, by show hp_kd G o1 < 28; rw [hkr]; decide⟩ rfl rfl (Nat.le_of_ble_eq_true rfl) hdp hb dJ7_getNode_128 (fun v G' h => (wk_sub [(1, vR a1), (4, vR a4), (6, vI x6)] ⟨rfl, rfl, rfl, trivial⟩ (kr v G' h))) kx
theorem blJ7_getNode_125_k15 {w : WD} {j : JB} {r : Nat} {G : GH} {a1 : Option Nat} {a4 : Option Nat} {x6 : Int32} {a7 : Option Nat} {o1 : Nat} {d' b' : Nat} {P : Option WV → GH → Prop} {PX : String → Nat → GH → Prop}
    (e1 : a1 = some o1)
    (hkr : hp_kd G o1 = 15)
    (hC : wk_C w mJ28_equals d' b' [vR (some o1), vR a7] G P PX)
    (hdp : d' + 1 ≤ j.1)
    (hb : b' ≤ r)
    (kr : ∀ v G', P v G' → wk_V w mJ7_getNode j 131 [(1, vR a1), (4, vR a4), (6, vI x6)] (v.toList ++ []) G' (r - b'))
    (kx : ∀ E q G', PX E q G' → wk_T w mJ7_getNode j 128 [(1, vR a1), (4, vR a4), (6, vI x6), (7, vR a7)] G' (r - b') E q)
    : wk_V w mJ7_getNode j 125 [(1, vR a1), (4, vR a4), (6, vI x6), (7, vR a7)] [] G r := by
  refine wk_aload_n 1 dJ7_getNode_125 rfl rfl ?_
  refine wk_aload dJ7_getNode_126 rfl ?_
  refine wk_eAt 1 e1 rfl ?_
  exact wk_callU (n := 1) (x := ⟨"java/lang/Object", "equals", "(Ljava/lang/Object;)Z"⟩) "java/lang/Object" hC rfl (Or.inl (by decide +kernel)) q1047 q1049 q1048 (by show Cond.selects (hp_C (hp_kd G o1)) _ _ ∈ lw_all; rw [hkr]; exact q1064) q3225 q1081 (by decide +kernel) (Nat.le_of_ble_eq_true rfl) ⟨by show hp_kd G o1 ≠ 0; rw [hkr]; decide, by show hp_kd G o1 < 28; rw [hkr]; decide⟩ rfl rfl (Nat.le_of_ble_eq_true rfl) hdp hb dJ7_getNode_128 (fun v G' h => (wk_sub [(1, vR a1), (4, vR a4), (6, vI x6)] ⟨rfl, rfl, rfl, trivial⟩ (kr v G' h))) kx
theorem blJ7_getNode_125_k12 {w : WD} {j : JB} {r : Nat} {G : GH} {a1 : Option Nat} {a4 : Option Nat} {x6 : Int32} {a7 : Option Nat} {o1 : Nat} {d' b' : Nat} {P : Option WV → GH → Prop} {PX : String → Nat → GH → Prop}
    (e1 : a1 = some o1)
    (hkr : hp_kd G o1 = 12)
    (hC : wk_C w mJ28_equals d' b' [vR (some o1), vR a7] G P PX)
    (hdp : d' + 1 ≤ j.1)
    (hb : b' ≤ r)
    (kr : ∀ v G', P v G' → wk_V w mJ7_getNode j 131 [(1, vR a1), (4, vR a4), (6, vI x6)] (v.toList ++ []) G' (r - b'))
    (kx : ∀ E q G', PX E q G' → wk_T w mJ7_getNode j 128 [(1, vR a1), (4, vR a4), (6, vI x6), (7, vR a7)] G' (r - b') E q)
    : wk_V w mJ7_getNode j 125 [(1, vR a1), (4, vR a4), (6, vI x6), (7, vR a7)] [] G r := by
  refine wk_aload_n 1 dJ7_getNode_125 rfl rfl ?_
  refine wk_aload dJ7_getNode_126 rfl ?_
  refine wk_eAt 1 e1 rfl ?_
  exact wk_callU (n := 1) (x := ⟨"java/lang/Object", "equals", "(Ljava/lang/Object;)Z"⟩) "java/lang/Object" hC rfl (Or.inl (by decide +kernel)) q1047 q1049 q1048 (by show Cond.selects (hp_C (hp_kd G o1)) _ _ ∈ lw_all; rw [hkr]; exact q1065) q3225 q1081 (by decide +kernel) (Nat.le_of_ble_eq_true rfl) ⟨by show hp_kd G o1 ≠ 0; rw [hkr]; decide, by show hp_kd G o1 < 28; rw [hkr]; decide⟩ rfl rfl (Nat.le_of_ble_eq_true rfl) hdp hb dJ7_getNode_128 (fun v G' h => (wk_sub [(1, vR a1), (4, vR a4), (6, vI x6)] ⟨rfl, rfl, rfl, trivial⟩ (kr v G' h))) kx
theorem blJ7_getNode_125_k6 {w : WD} {j : JB} {r : Nat} {G : GH} {a1 : Option Nat} {a4 : Option Nat} {x6 : Int32} {a7 : Option Nat} {o1 : Nat} {d' b' : Nat} {P : Option WV → GH → Prop} {PX : String → Nat → GH → Prop}
    (e1 : a1 = some o1)
    (hkr : hp_kd G o1 = 6)
    (hC : wk_C w mJ28_equals d' b' [vR (some o1), vR a7] G P PX)
    (hdp : d' + 1 ≤ j.1)
    (hb : b' ≤ r)
    (kr : ∀ v G', P v G' → wk_V w mJ7_getNode j 131 [(1, vR a1), (4, vR a4), (6, vI x6)] (v.toList ++ []) G' (r - b'))
    (kx : ∀ E q G', PX E q G' → wk_T w mJ7_getNode j 128 [(1, vR a1), (4, vR a4), (6, vI x6), (7, vR a7)] G' (r - b') E q)
    : wk_V w mJ7_getNode j 125 [(1, vR a1), (4, vR a4), (6, vI x6), (7, vR a7)] [] G r := by
  refine wk_aload_n 1 dJ7_getNode_125 rfl rfl ?_
  refine wk_aload dJ7_getNode_126 rfl ?_
  refine wk_eAt 1 e1 rfl ?_
  exact wk_callU (n := 1) (x := ⟨"java/lang/Object", "equals", "(Ljava/lang/Object;)Z"⟩) "java/lang/Object" hC rfl (Or.inl (by decide +kernel)) q1047 q1049 q1048 (by show Cond.selects (hp_C (hp_kd G o1)) _ _ ∈ lw_all; rw [hkr]; exact q1070) q3225 q1081 (by decide +kernel) (Nat.le_of_ble_eq_true rfl) ⟨by show hp_kd G o1 ≠ 0; rw [hkr]; decide, by show hp_kd G o1 < 28; rw [hkr]; decide⟩ rfl rfl (Nat.le_of_ble_eq_true rfl) hdp hb dJ7_getNode_128 (fun v G' h => (wk_sub [(1, vR a1), (4, vR a4), (6, vI x6)] ⟨rfl, rfl, rfl, trivial⟩ (kr v G' h))) kx
theorem blJ7_getNode_125_k19 {w : WD} {j : JB} {r : Nat} {G : GH} {a1 : Option Nat} {a4 : Option Nat} {x6 : Int32} {a7 : Option Nat} {o1 : Nat} {d' b' : Nat} {P : Option WV → GH → Prop} {PX : String → Nat → GH → Prop}
    (e1 : a1 = some o1)
    (hkr : hp_kd G o1 = 19)
    (hC : wk_C w mJ28_equals d' b' [vR (some o1), vR a7] G P PX)
    (hdp : d' + 1 ≤ j.1)
    (hb : b' ≤ r)
    (kr : ∀ v G', P v G' → wk_V w mJ7_getNode j 131 [(1, vR a1), (4, vR a4), (6, vI x6)] (v.toList ++ []) G' (r - b'))
    (kx : ∀ E q G', PX E q G' → wk_T w mJ7_getNode j 128 [(1, vR a1), (4, vR a4), (6, vI x6), (7, vR a7)] G' (r - b') E q)
    : wk_V w mJ7_getNode j 125 [(1, vR a1), (4, vR a4), (6, vI x6), (7, vR a7)] [] G r := by
  refine wk_aload_n 1 dJ7_getNode_125 rfl rfl ?_
  refine wk_aload dJ7_getNode_126 rfl ?_
  refine wk_eAt 1 e1 rfl ?_
  exact wk_callU (n := 1) (x := ⟨"java/lang/Object", "equals", "(Ljava/lang/Object;)Z"⟩) "java/lang/Object" hC rfl (Or.inl (by decide +kernel)) q1047 q1049 q1048 (by show Cond.selects (hp_C (hp_kd G o1)) _ _ ∈ lw_all; rw [hkr]; exact q1071) q3225 q1081 (by decide +kernel) (Nat.le_of_ble_eq_true rfl) ⟨by show hp_kd G o1 ≠ 0; rw [hkr]; decide, by show hp_kd G o1 < 28; rw [hkr]; decide⟩ rfl rfl (Nat.le_of_ble_eq_true rfl) hdp hb dJ7_getNode_128 (fun v G' h => (wk_sub [(1, vR a1), (4, vR a4), (6, vI x6)] ⟨rfl, rfl, rfl, trivial⟩ (kr v G' h))) kx
theorem blJ7_getNode_125_k3 {w : WD} {j : JB} {r : Nat} {G : GH} {a1 : Option Nat} {a4 : Option Nat} {x6 : Int32} {a7 : Option Nat} {o1 : Nat} {d' b' : Nat} {P : Option WV → GH → Prop} {PX : String → Nat → GH → Prop}
    (e1 : a1 = some o1)
    (hkr : hp_kd G o1 = 3)
    (hC : wk_C w mJ28_equals d' b' [vR (some o1), vR a7] G P PX)
    (hdp : d' + 1 ≤ j.1)
    (hb : b' ≤ r)
    (kr : ∀ v G', P v G' → wk_V w mJ7_getNode j 131 [(1, vR a1), (4, vR a4), (6, vI x6)] (v.toList ++ []) G' (r - b'))
    (kx : ∀ E q G', PX E q G' → wk_T w mJ7_getNode j 128 [(1, vR a1), (4, vR a4), (6, vI x6), (7, vR a7)] G' (r - b') E q)
    : wk_V w mJ7_getNode j 125 [(1, vR a1), (4, vR a4), (6, vI x6), (7, vR a7)] [] G r := by
  refine wk_aload_n 1 dJ7_getNode_125 rfl rfl ?_
  refine wk_aload dJ7_getNode_126 rfl ?_
  refine wk_eAt 1 e1 rfl ?_
  exact wk_callU (n := 1) (x := ⟨"java/lang/Object", "equals", "(Ljava/lang/Object;)Z"⟩) "java/lang/Object" hC rfl (Or.inl (by decide +kernel)) q1047 q1049 q1048 (by show Cond.selects (hp_C (hp_kd G o1)) _ _ ∈ lw_all; rw [hkr]; exact q1072) q3225 q1081 (by decide +kernel) (Nat.le_of_ble_eq_true rfl) ⟨by show hp_kd G o1 ≠ 0; rw [hkr]; decide, by show hp_kd G o1 < 28; rw [hkr]; decide⟩ rfl rfl (Nat.le_of_ble_eq_true rfl) hdp hb dJ7_getNode_128 (fun v G' h => (wk_sub [(1, vR a1), (4, vR a4), (6, vI x6)] ⟨rfl, rfl, rfl, trivial⟩ (kr v G' h))) kx
theorem blJ7_getNode_125_k1 {w : WD} {j : JB} {r : Nat} {G : GH} {a1 : Option Nat} {a4 : Option Nat} {x6 : Int32} {a7 : Option Nat} {o1 : Nat} {d' b' : Nat} {P : Option WV → GH → Prop} {PX : String → Nat → GH → Prop}
    (e1 : a1 = some o1)
    (hkr : hp_kd G o1 = 1)
    (hC : wk_C w mJ28_equals d' b' [vR (some o1), vR a7] G P PX)
    (hdp : d' + 1 ≤ j.1)
    (hb : b' ≤ r)
    (kr : ∀ v G', P v G' → wk_V w mJ7_getNode j 131 [(1, vR a1), (4, vR a4), (6, vI x6)] (v.toList ++ []) G' (r - b'))
    (kx : ∀ E q G', PX E q G' → wk_T w mJ7_getNode j 128 [(1, vR a1), (4, vR a4), (6, vI x6), (7, vR a7)] G' (r - b') E q)
    : wk_V w mJ7_getNode j 125 [(1, vR a1), (4, vR a4), (6, vI x6), (7, vR a7)] [] G r := by
  refine wk_aload_n 1 dJ7_getNode_125 rfl rfl ?_
  refine wk_aload dJ7_getNode_126 rfl ?_
  refine wk_eAt 1 e1 rfl ?_
  exact wk_callU (n := 1) (x := ⟨"java/lang/Object", "equals", "(Ljava/lang/Object;)Z"⟩) "java/lang/Object" hC rfl (Or.inl (by decide +kernel)) q1047 q1049 q1048 (by show Cond.selects (hp_C (hp_kd G o1)) _ _ ∈ lw_all; rw [hkr]; exact q1073) q3225 q1081 (by decide +kernel) (Nat.le_of_ble_eq_true rfl) ⟨by show hp_kd G o1 ≠ 0; rw [hkr]; decide, by show hp_kd G o1 < 28; rw [hkr]; decide⟩ rfl rfl (Nat.le_of_ble_eq_true rfl) hdp hb dJ7_getNode_128 (fun v G' h => (wk_sub [(1, vR a1), (4, vR a4), (6, vI x6)] ⟨rfl, rfl, rfl, trivial⟩ (kr v G' h))) kx
theorem blJ7_getNode_125_k4 {w : WD} {j : JB} {r : Nat} {G : GH} {a1 : Option Nat} {a4 : Option Nat} {x6 : Int32} {a7 : Option Nat} {o1 : Nat} {d' b' : Nat} {P : Option WV → GH → Prop} {PX : String → Nat → GH → Prop}
    (e1 : a1 = some o1)
    (hkr : hp_kd G o1 = 4)
    (hC : wk_C w mJ28_equals d' b' [vR (some o1), vR a7] G P PX)
    (hdp : d' + 1 ≤ j.1)
    (hb : b' ≤ r)
    (kr : ∀ v G', P v G' → wk_V w mJ7_getNode j 131 [(1, vR a1), (4, vR a4), (6, vI x6)] (v.toList ++ []) G' (r - b'))
    (kx : ∀ E q G', PX E q G' → wk_T w mJ7_getNode j 128 [(1, vR a1), (4, vR a4), (6, vI x6), (7, vR a7)] G' (r - b') E q)
    : wk_V w mJ7_getNode j 125 [(1, vR a1), (4, vR a4), (6, vI x6), (7, vR a7)] [] G r := by
  refine wk_aload_n 1 dJ7_getNode_125 rfl rfl ?_
  refine wk_aload dJ7_getNode_126 rfl ?_
  refine wk_eAt 1 e1 rfl ?_
  exact wk_callU (n := 1) (x := ⟨"java/lang/Object", "equals", "(Ljava/lang/Object;)Z"⟩) "java/lang/Object" hC rfl (Or.inl (by decide +kernel)) q1047 q1049 q1048 (by show Cond.selects (hp_C (hp_kd G o1)) _ _ ∈ lw_all; rw [hkr]; exact q1074) q3225 q1081 (by decide +kernel) (Nat.le_of_ble_eq_true rfl) ⟨by show hp_kd G o1 ≠ 0; rw [hkr]; decide, by show hp_kd G o1 < 28; rw [hkr]; decide⟩ rfl rfl (Nat.le_of_ble_eq_true rfl) hdp hb dJ7_getNode_128 (fun v G' h => (wk_sub [(1, vR a1), (4, vR a4), (6, vI x6)] ⟨rfl, rfl, rfl, trivial⟩ (kr v G' h))) kx
theorem blJ7_getNode_125_k26 {w : WD} {j : JB} {r : Nat} {G : GH} {a1 : Option Nat} {a4 : Option Nat} {x6 : Int32} {a7 : Option Nat} {o1 : Nat} {d' b' : Nat} {P : Option WV → GH → Prop} {PX : String → Nat → GH → Prop}
    (e1 : a1 = some o1)
    (hkr : hp_kd G o1 = 26)
    (hC : wk_C w mJ13_equals d' b' [vR (some o1), vR a7] G P PX)
    (hdp : d' + 1 ≤ j.1)
    (hb : b' ≤ r)
    (kr : ∀ v G', P v G' → wk_V w mJ7_getNode j 131 [(1, vR a1), (4, vR a4), (6, vI x6)] (v.toList ++ []) G' (r - b'))
    (kx : ∀ E q G', PX E q G' → wk_T w mJ7_getNode j 128 [(1, vR a1), (4, vR a4), (6, vI x6), (7, vR a7)] G' (r - b') E q)
    : wk_V w mJ7_getNode j 125 [(1, vR a1), (4, vR a4), (6, vI x6), (7, vR a7)] [] G r := by
  refine wk_aload_n 1 dJ7_getNode_125 rfl rfl ?_
  refine wk_aload dJ7_getNode_126 rfl ?_
  refine wk_eAt 1 e1 rfl ?_
  exact wk_callU (n := 1) (x := ⟨"java/lang/Object", "equals", "(Ljava/lang/Object;)Z"⟩) "java/lang/Object" hC rfl (Or.inl (by decide +kernel)) q1047 q1049 q896 (by show Cond.selects (hp_C (hp_kd G o1)) _ _ ∈ lw_all; rw [hkr]; exact q1077) q129 q898 (by decide +kernel) (Nat.le_of_ble_eq_true rfl) ⟨by show hp_kd G o1 ≠ 0; rw [hkr]; decide, by show hp_kd G o1 < 28; rw [hkr]; decide⟩ rfl rfl (Nat.le_of_ble_eq_true rfl) hdp hb dJ7_getNode_128 (fun v G' h => (wk_sub [(1, vR a1), (4, vR a4), (6, vI x6)] ⟨rfl, rfl, rfl, trivial⟩ (kr v G' h))) kx
theorem blJ7_getNode_125_k27 {w : WD} {j : JB} {r : Nat} {G : GH} {a1 : Option Nat} {a4 : Option Nat} {x6 : Int32} {a7 : Option Nat} {o1 : Nat} {d' b' : Nat} {P : Option WV → GH → Prop} {PX : String → Nat → GH → Prop}
    (e1 : a1 = some o1)
    (hkr : hp_kd G o1 = 27)
    (hC : wk_C w mJ28_equals d' b' [vR (some o1), vR a7] G P PX)
    (hdp : d' + 1 ≤ j.1)
    (hb : b' ≤ r)
    (kr : ∀ v G', P v G' → wk_V w mJ7_getNode j 131 [(1, vR a1), (4, vR a4), (6, vI x6)] (v.toList ++ []) G' (r - b'))
    (kx : ∀ E q G', PX E q G' → wk_T w mJ7_getNode j 128 [(1, vR a1), (4, vR a4), (6, vI x6), (7, vR a7)] G' (r - b') E q)
    : wk_V w mJ7_getNode j 125 [(1, vR a1), (4, vR a4), (6, vI x6), (7, vR a7)] [] G r := by
  refine wk_aload_n 1 dJ7_getNode_125 rfl rfl ?_
  refine wk_aload dJ7_getNode_126 rfl ?_
  refine wk_eAt 1 e1 rfl ?_
  exact wk_callU (n := 1) (x := ⟨"java/lang/Object", "equals", "(Ljava/lang/Object;)Z"⟩) "java/lang/Object" hC rfl (Or.inl (by decide +kernel)) q1047 q1049 q1048 (by show Cond.selects (hp_C (hp_kd G o1)) _ _ ∈ lw_all; rw [hkr]; exact q1078) q3225 q1081 (by decide +kernel) (Nat.le_of_ble_eq_true rfl) ⟨by show hp_kd G o1 ≠ 0; rw [hkr]; decide, by show hp_kd G o1 < 28; rw [hkr]; decide⟩ rfl rfl (Nat.le_of_ble_eq_true rfl) hdp hb dJ7_getNode_128 (fun v G' h => (wk_sub [(1, vR a1), (4, vR a4), (6, vI x6)] ⟨rfl, rfl, rfl, trivial⟩ (kr v G' h))) kx
theorem blJ7_getNode_131 {w : WD} {j : JB} {r : Nat} {G : GH} {a1 : Option Nat} {a4 : Option Nat} {x6 : Int32} {s0 : Int32}
    (kt : s0 = 0 → wk_V w mJ7_getNode j 137 [(1, vR a1), (4, vR a4), (6, vI x6)] [] G r)
    (kf : ¬ (s0 = 0) → wk_V w mJ7_getNode j 134 [(4, vR a4)] [] G r)
    : wk_V w mJ7_getNode j 131 [(1, vR a1), (4, vR a4), (6, vI x6)] [vI s0] G r := by
  exact wk_if_eq 137 dJ7_getNode_131 (by decide) (fun h => (kt h)) (fun h => (wk_sub [(4, vR a4)] ⟨rfl, trivial⟩ (kf h)))
theorem blJ7_getNode_134 {w : WD} {j : JB} {r : Nat} {G : GH} {a4 : Option Nat}
    (hP : j.2.2.1 (some (vR a4)) G)
    : wk_V w mJ7_getNode j 134 [(4, vR a4)] [] G r := by
  refine wk_aload dJ7_getNode_134 rfl ?_
  exact wk_areturn rfl (Or.inl ⟨_, rfl⟩) dJ7_getNode_136 hP
theorem blJ7_getNode_137 {w : WD} {j : JB} {r : Nat} {G : GH} {a1 : Option Nat} {a4 : Option Nat} {x6 : Int32} {o1 : Nat}
    (e1 : a4 = some o1)
    (hk2 : 24 ≤ hp_kd G o1 ∧ hp_kd G o1 ≤ 25)
    (kt : ∀ o9, (hp_r G o1 3) = some o9 → wk_V w mJ7_getNode j 99 [(1, vR a1), (4, vR (hp_r G o1 3)), (6, vI x6)] [] G r)
    (kf : (hp_r G o1 3) = none → wk_V w mJ7_getNode j 148 [] [] G r)
    : wk_V w mJ7_getNode j 137 [(1, vR a1), (4, vR a4), (6, vI x6)] [] G r := by
  refine wk_aload dJ7_getNode_137 rfl ?_
  refine wk_e e1 ?_
  refine wk_getR (hp_kd G o1) 3 (flJ7_177 _ hk2.1 hk2.2) (flJ7_177_t _ hk2.1 hk2.2).1 rfl dJ7_getNode_139 ?_
  refine wk_dup dJ7_getNode_142 rfl ?_
  refine wk_astore dJ7_getNode_143 (Nat.le_of_ble_eq_true rfl) ?_
  exact wk_ifnonnull 99 dJ7_getNode_145 (by decide) (fun o9 h => (kt o9 h)) (fun h => (wk_sub [] trivial (kf h)))
theorem blJ7_getNode_148 {w : WD} {j : JB} {r : Nat} {G : GH}
    (hP : j.2.2.1 (some (vR none)) G)
    : wk_V w mJ7_getNode j 148 [] [] G r := by
  refine wk_null dJ7_getNode_148 ?_
  exact wk_areturn rfl (Or.inl ⟨_, rfl⟩) dJ7_getNode_149 hP
/-! java/util/HashMap.hash(Ljava/lang/Object;)I -/
theorem blJ7_hash_0 {w : WD} {j : JB} {r : Nat} {G : GH} {a0 : Option Nat}
    (kt : ∀ o9, a0 = some o9 → wk_V w mJ7_hash j 8 [(0, vR a0)] [] G r)
    (kf : a0 = none → wk_V w mJ7_hash j 4 [] [] G r)
    : wk_V w mJ7_hash j 0 [(0, vR a0)] [] G r := by
  refine wk_aload_n 0 dJ7_hash_0 rfl rfl ?_
  exact wk_ifnonnull 8 dJ7_hash_1 (by decide) (fun o9 h => (kt o9 h)) (fun h => (wk_sub [] trivial (kf h)))
theorem blJ7_hash_4 {w : WD} {j : JB} {r : Nat} {G : GH}
    (k : wk_V w mJ7_hash j 19 [] [vI (0 : Int32)] G r)
    : wk_V w mJ7_hash j 4 [] [] G r := by
  refine wk_iconst (0 : Int32) dJ7_hash_4 (by decide) ?_
  exact wk_goto 19 dJ7_hash_5 (by decide) k
-- blJ7_hash_8: left out (callee ('java/lang/Object', 'hashCode', '()I'))
-- blJ7_hash_8: left out (callee ('java/lang/Object', 'hashCode', '()I'))
-- blJ7_hash_8: left out (callee ('java/lang/Object', 'hashCode', '()I'))
-- blJ7_hash_8: left out (callee ('java/lang/Object', 'hashCode', '()I'))
-- blJ7_hash_8: left out (callee ('java/lang/Object', 'hashCode', '()I'))
-- blJ7_hash_8: left out (callee ('java/lang/Object', 'hashCode', '()I'))
-- blJ7_hash_8: left out (callee ('java/lang/Object', 'hashCode', '()I'))
-- blJ7_hash_8: left out (callee ('java/lang/Object', 'hashCode', '()I'))
-- blJ7_hash_8: left out (callee ('java/lang/Object', 'hashCode', '()I'))
-- blJ7_hash_8: left out (callee ('java/lang/Object', 'hashCode', '()I'))
-- blJ7_hash_8: left out (callee ('java/lang/Object', 'hashCode', '()I'))
-- blJ7_hash_8: left out (callee ('java/lang/Object', 'hashCode', '()I'))
-- blJ7_hash_8: left out (callee ('java/lang/Object', 'hashCode', '()I'))
-- blJ7_hash_8: left out (callee ('java/lang/Object', 'hashCode', '()I'))
-- blJ7_hash_8: left out (callee ('java/lang/Object', 'hashCode', '()I'))
-- blJ7_hash_8: left out (callee ('java/lang/Object', 'hashCode', '()I'))
-- blJ7_hash_8: left out (callee ('java/lang/Object', 'hashCode', '()I'))
-- blJ7_hash_8: left out (callee ('java/lang/Object', 'hashCode', '()I'))
-- blJ7_hash_8: left out (callee ('java/lang/Object', 'hashCode', '()I'))
-- blJ7_hash_8: left out (callee ('java/lang/Object', 'hashCode', '()I'))
-- blJ7_hash_8: left out (callee ('java/lang/Object', 'hashCode', '()I'))
theorem blJ7_hash_8_k26 {w : WD} {j : JB} {r : Nat} {G : GH} {a0 : Option Nat} {o1 : Nat} {d' b' : Nat} {P : Option WV → GH → Prop} {PX : String → Nat → GH → Prop}
    (e1 : a0 = some o1)
    (hkr : hp_kd G o1 = 26)
    (hC : wk_C w mJ13_hashCode d' b' [vR (some o1)] G P PX)
    (hdp : d' + 1 ≤ j.1)
    (hb : b' ≤ r)
    (kr : ∀ v G', P v G' → wk_V w mJ7_hash j 12 [] (v.toList ++ []) G' (r - b'))
    (kx : ∀ E q G', PX E q G' → wk_T w mJ7_hash j 9 [(0, vR a0)] G' (r - b') E q)
    : wk_V w mJ7_hash j 8 [(0, vR a0)] [] G r := by
  refine wk_aload_n 0 dJ7_hash_8 rfl rfl ?_
  refine wk_eAt 0 e1 rfl ?_
  exact wk_callU (n := 0) (x := ⟨"java/lang/Object", "hashCode", "()I"⟩) "java/lang/Object" hC rfl (Or.inl (by decide +kernel)) q1008 q1010 q915 (by show Cond.selects (hp_C (hp_kd G o1)) _ _ ∈ lw_all; rw [hkr]; exact q1041) q129 q917 (by decide +kernel) (Nat.le_of_ble_eq_true rfl) ⟨by show hp_kd G o1 ≠ 0; rw [hkr]; decide, by show hp_kd G o1 < 28; rw [hkr]; decide⟩ rfl rfl (Nat.le_of_ble_eq_true rfl) hdp hb dJ7_hash_9 (fun v G' h => (wk_sub [] trivial (kr v G' h))) kx
-- blJ7_hash_8: left out (callee ('java/lang/Object', 'hashCode', '()I'))
theorem blJ7_hash_12 {w : WD} {j : JB} {r : Nat} {G : GH} {s0 : Int32}
    (k : wk_V w mJ7_hash j 19 [] [vI (s0 ^^^ ((s0.toUInt32 >>> ((16 : Int32).toUInt32 &&& Int32.toUInt32 31)).toInt32))] G r)
    : wk_V w mJ7_hash j 12 [] [vI s0] G r := by
  refine wk_dup dJ7_hash_12 rfl ?_
  refine wk_istore_n 1 dJ7_hash_13 rfl (Nat.le_of_ble_eq_true rfl) ?_
  refine wk_iload_n 1 dJ7_hash_14 rfl rfl ?_
  refine wk_bipush (16 : Int32) dJ7_hash_15 (by decide) ?_
  refine wk_iushr dJ7_hash_17 ?_
  refine wk_ixor dJ7_hash_18 ?_
  exact (wk_sub [] trivial k)
theorem blJ7_hash_19 {w : WD} {j : JB} {r : Nat} {G : GH} {s0 : Int32}
    (hP : j.2.2.1 (some (vI s0)) G)
    : wk_V w mJ7_hash j 19 [] [vI s0] G r := by
  exact wk_ireturn rfl rfl dJ7_hash_19 hP
/-! java/util/HashMap.<init>()V -/
theorem blJ7_init_0 {w : WD} {j : JB} {r : Nat} {G : GH} {a0 : Nat} {d' b' : Nat} {P : Option WV → GH → Prop} {PX : String → Nat → GH → Prop}
    (hC : wk_C w mJ6_init d' b' [vR (some a0)] G P PX)
    (hdp : d' + 1 ≤ j.1)
    (hb : b' ≤ r)
    (kr : ∀ v G', P v G' → wk_V w mJ7_init j 4 [(0, vR (some a0))] (v.toList ++ []) G' (r - b'))
    (kx : ∀ E q G', PX E q G' → wk_T w mJ7_init j 1 [(0, vR (some a0))] G' (r - b') E q)
    : wk_V w mJ7_init j 0 [(0, vR (some a0))] [] G r := by
  refine wk_aload_n 0 dJ7_init_0 rfl rfl ?_
  exact wk_callI hC rfl rfl rfl q286 q287 q118 q288 mdJ6_init (Nat.le_of_ble_eq_true rfl) rfl rfl (Nat.le_of_ble_eq_true rfl) hdp hb dJ7_init_1 kr kx
theorem blJ7_init_4 {w : WD} {j : JB} {r : Nat} {G : GH} {a0 : Nat}
    (hk1 : hp_kd G a0 = 23)
    (hA2 : hp_A w a0)
    (k : wk_V w mJ7_init j 10 [] [] (hp_sI G a0 7 ((1061158912 : UInt32).toInt32)) r)
    : wk_V w mJ7_init j 4 [(0, vR (some a0))] [] G r := by
  refine wk_aload_n 0 dJ7_init_4 rfl rfl ?_
  refine wk_ldcfPut 23 7 (1061158912 : UInt32) flJ7_81 rfl hk1 hA2 ⟨rfl, rfl, rfl⟩ q290 dJ7_init_5 dJ7_init_7 ?_
  exact (wk_sub [] trivial k)
/-! java/util/HashMap.newNode(ILjava/lang/Object;Ljava/lang/Object;Ljava/util/HashMap$Node;)Ljava/util/HashMap$Node; -/
theorem blJ7_newNode_0 {w : WD} {j : JB} {r : Nat} {G : GH} {x1 : Int32} {a2 : Option Nat} {a3 : Option Nat} {a4 : Option Nat}
    (hr : 1 ≤ r)
    (k : ∀ q, hp_kd G q = 0 → hp_A w q → wk_V w mJ7_newNode j 3 [(1, vI x1), (2, vR a2), (3, vR a3), (4, vR a4)] [vR (some q)] (hp_nw G q 24 0) (r - 1))
    : wk_V w mJ7_newNode j 0 [(1, vI x1), (2, vR a2), (3, vR a3), (4, vR a4)] [] G r := by
  refine wk_new 24 4 ⟨by decide, by decide, q1576, q1591, q147, rfl⟩ hr dJ7_newNode_0 (fun q h1 h2 => ?_)
  exact (k q h1 h2)
theorem blJ7_newNode_3 {w : WD} {j : JB} {r : Nat} {G : GH} {x1 : Int32} {a2 : Option Nat} {a3 : Option Nat} {a4 : Option Nat} {sa0 : Option Nat} {o1 : Nat} {d' b' : Nat} {P : Option WV → GH → Prop} {PX : String → Nat → GH → Prop}
    (e1 : sa0 = some o1)
    (hC : wk_C w mJ24_init d' b' [vR (some o1), vI x1, vR a2, vR a3, vR a4] G P PX)
    (hdp : d' + 1 ≤ j.1)
    (hb : b' ≤ r)
    (kr : ∀ v G', P v G' → wk_V w mJ7_newNode j 12 [] (v.toList ++ [vR sa0]) G' (r - b'))
    (kx : ∀ E q G', PX E q G' → wk_T w mJ7_newNode j 9 [(1, vI x1), (2, vR a2), (3, vR a3), (4, vR a4)] G' (r - b') E q)
    : wk_V w mJ7_newNode j 3 [(1, vI x1), (2, vR a2), (3, vR a3), (4, vR a4)] [vR sa0] G r := by
  refine wk_dup dJ7_newNode_3 rfl ?_
  refine wk_iload_n 1 dJ7_newNode_4 rfl rfl ?_
  refine wk_aload_n 2 dJ7_newNode_5 rfl rfl ?_
  refine wk_aload_n 3 dJ7_newNode_6 rfl rfl ?_
  refine wk_aload dJ7_newNode_7 rfl ?_
  refine wk_eAt 4 e1 rfl ?_
  exact wk_callI hC rfl rfl rfl q1592 q1593 q147 q1594 mdJ24_init (Nat.le_of_ble_eq_true rfl) rfl rfl (Nat.le_of_ble_eq_true rfl) hdp hb dJ7_newNode_9 (fun v G' h => (wk_sub [] trivial (kr v G' h))) kx
theorem blJ7_newNode_12 {w : WD} {j : JB} {r : Nat} {G : GH} {sa0 : Option Nat}
    (hP : j.2.2.1 (some (vR sa0)) G)
    : wk_V w mJ7_newNode j 12 [] [vR sa0] G r := by
  exact wk_areturn rfl (Or.inl ⟨_, rfl⟩) dJ7_newNode_12 hP
/-! java/util/HashMap.newTreeNode(ILjava/lang/Object;Ljava/lang/Object;Ljava/util/HashMap$Node;)Ljava/util/HashMap$TreeNode; -/
theorem blJ7_newTreeNode_0 {w : WD} {j : JB} {r : Nat} {G : GH} {x1 : Int32} {a2 : Option Nat} {a3 : Option Nat} {a4 : Option Nat}
    (hr : 1 ≤ r)
    (k : ∀ q, hp_kd G q = 0 → hp_A w q → wk_V w mJ7_newTreeNode j 3 [(1, vI x1), (2, vR a2), (3, vR a3), (4, vR a4)] [vR (some q)] (hp_nw G q 25 0) (r - 1))
    : wk_V w mJ7_newTreeNode j 0 [(1, vI x1), (2, vR a2), (3, vR a3), (4, vR a4)] [] G r := by
  refine wk_new 25 11 ⟨by decide, by decide, q1082, q1651, q149, rfl⟩ hr dJ7_newTreeNode_0 (fun q h1 h2 => ?_)
  exact (k q h1 h2)
theorem blJ7_newTreeNode_3 {w : WD} {j : JB} {r : Nat} {G : GH} {x1 : Int32} {a2 : Option Nat} {a3 : Option Nat} {a4 : Option Nat} {sa0 : Option Nat} {o1 : Nat} {d' b' : Nat} {P : Option WV → GH → Prop} {PX : String → Nat → GH → Prop}
    (e1 : sa0 = some o1)
    (hC : wk_C w mJ26_init d' b' [vR (some o1), vI x1, vR a2, vR a3, vR a4] G P PX)
    (hdp : d' + 1 ≤ j.1)
    (hb : b' ≤ r)
    (kr : ∀ v G', P v G' → wk_V w mJ7_newTreeNode j 12 [] (v.toList ++ [vR sa0]) G' (r - b'))
    (kx : ∀ E q G', PX E q G' → wk_T w mJ7_newTreeNode j 9 [(1, vI x1), (2, vR a2), (3, vR a3), (4, vR a4)] G' (r - b') E q)
    : wk_V w mJ7_newTreeNode j 3 [(1, vI x1), (2, vR a2), (3, vR a3), (4, vR a4)] [vR sa0] G r := by
  refine wk_dup dJ7_newTreeNode_3 rfl ?_
  refine wk_iload_n 1 dJ7_newTreeNode_4 rfl rfl ?_
  refine wk_aload_n 2 dJ7_newTreeNode_5 rfl rfl ?_
  refine wk_aload_n 3 dJ7_newTreeNode_6 rfl rfl ?_
  refine wk_aload dJ7_newTreeNode_7 rfl ?_
  refine wk_eAt 4 e1 rfl ?_
  exact wk_callI hC rfl rfl rfl q1652 q1653 q149 q1654 mdJ26_init (Nat.le_of_ble_eq_true rfl) rfl rfl (Nat.le_of_ble_eq_true rfl) hdp hb dJ7_newTreeNode_9 (fun v G' h => (wk_sub [] trivial (kr v G' h))) kx
theorem blJ7_newTreeNode_12 {w : WD} {j : JB} {r : Nat} {G : GH} {sa0 : Option Nat}
    (hP : j.2.2.1 (some (vR sa0)) G)
    : wk_V w mJ7_newTreeNode j 12 [] [vR sa0] G r := by
  exact wk_areturn rfl (Or.inl ⟨_, rfl⟩) dJ7_newTreeNode_12 hP
/-! java/util/HashMap.put(Ljava/lang/Object;Ljava/lang/Object;)Ljava/lang/Object; -/
theorem blJ7_put_0 {w : WD} {j : JB} {r : Nat} {G : GH} {a0 : Nat} {a1 : Option Nat} {a2 : Option Nat} {d' b' : Nat} {P : Option WV → GH → Prop} {PX : String → Nat → GH → Prop}
    (hC : wk_C w mJ7_hash d' b' [vR a1] G P PX)
    (hdp : d' + 1 ≤ j.1)
    (hb : b' ≤ r)
    (kr : ∀ v G', P v G' → wk_V w mJ7_put j 5 [(1, vR a1), (2, vR a2)] (v.toList ++ [vR (some a0)]) G' (r - b'))
    (kx : ∀ E q G', PX E q G' → wk_T w mJ7_put j 2 [(0, vR (some a0)), (1, vR a1), (2, vR a2)] G' (r - b') E q)
    : wk_V w mJ7_put j 0 [(0, vR (some a0)), (1, vR a1), (2, vR a2)] [] G r := by
  refine wk_aload_n 0 dJ7_put_0 rfl rfl ?_
  refine wk_aload_n 1 dJ7_put_1 rfl rfl ?_
  exact wk_callS hC rfl q1004 q1005 q119 q1006 mdJ7_hash (Nat.le_of_ble_eq_true rfl) rfl rfl (Nat.le_of_ble_eq_true rfl) hdp hb dJ7_put_2 (fun v G' h => (wk_sub [(1, vR a1), (2, vR a2)] ⟨rfl, rfl, trivial⟩ (kr v G' h))) kx
theorem blJ7_put_5 {w : WD} {j : JB} {r : Nat} {G : GH} {a1 : Option Nat} {a2 : Option Nat} {s0 : Option Nat} {s1 : Int32} {o1 : Nat} {d' b' : Nat} {P : Option WV → GH → Prop} {PX : String → Nat → GH → Prop}
    (e1 : s0 = some o1)
    (hkr : hp_kd G o1 = 23)
    (hC : wk_C w mJ7_putVal d' b' [vR (some o1), vI s1, vR a1, vR a2, vI (0 : Int32), vI (1 : Int32)] G P PX)
    (hdp : d' + 1 ≤ j.1)
    (hb : b' ≤ r)
    (kr : ∀ v G', P v G' → wk_V w mJ7_put j 12 [] (v.toList ++ []) G' (r - b'))
    (kx : ∀ E q G', PX E q G' → wk_T w mJ7_put j 9 [(1, vR a1), (2, vR a2)] G' (r - b') E q)
    : wk_V w mJ7_put j 5 [(1, vR a1), (2, vR a2)] [vI s1, vR s0] G r := by
  refine wk_aload_n 1 dJ7_put_5 rfl rfl ?_
  refine wk_aload_n 2 dJ7_put_6 rfl rfl ?_
  refine wk_iconst (0 : Int32) dJ7_put_7 (by decide) ?_
  refine wk_iconst (1 : Int32) dJ7_put_8 (by decide) ?_
  refine wk_eAt 5 e1 rfl ?_
  exact wk_callV hC rfl q1565 q1566 q1567 q119 q1568 mdJ7_putVal (Nat.le_of_ble_eq_true rfl) ⟨by show hp_kd G o1 ≠ 0; rw [hkr]; decide, by show hp_kd G o1 < 28; rw [hkr]; decide, by show hp_C (hp_kd G o1) = _; rw [hkr]; rfl⟩ rfl rfl (Nat.le_of_ble_eq_true rfl) hdp hb dJ7_put_9 (fun v G' h => (wk_sub [] trivial (kr v G' h))) kx
theorem blJ7_put_12 {w : WD} {j : JB} {r : Nat} {G : GH} {sa0 : Option Nat}
    (hP : j.2.2.1 (some (vR sa0)) G)
    : wk_V w mJ7_put j 12 [] [vR sa0] G r := by
  exact wk_areturn rfl (Or.inl ⟨_, rfl⟩) dJ7_put_12 hP
/-! java/util/HashMap.putVal(ILjava/lang/Object;Ljava/lang/Object;ZZ)Ljava/lang/Object; -/
theorem blJ7_putVal_0 {w : WD} {j : JB} {r : Nat} {G : GH} {a0 : Nat} {x1 : Int32} {a2 : Option Nat} {a3 : Option Nat} {x4 : Int32} {x5 : Int32}
    (hk1 : hp_kd G a0 = 23)
    (kt : (hp_r G a0 2) = none → wk_V w mJ7_putVal j 19 [(0, vR (some a0)), (1, vI x1), (2, vR a2), (3, vR a3), (4, vI x4), (5, vI x5)] [] G r)
    (kf : ∀ o9, (hp_r G a0 2) = some o9 → wk_V w mJ7_putVal j 10 [(0, vR (some a0)), (1, vI x1), (2, vR a2), (3, vR a3), (4, vI x4), (5, vI x5), (6, vR (hp_r G a0 2))] [] G r)
    : wk_V w mJ7_putVal j 0 [(0, vR (some a0)), (1, vI x1), (2, vR a2), (3, vR a3), (4, vI x4), (5, vI x5)] [] G r := by
  refine wk_aload_n 0 dJ7_putVal_0 rfl rfl ?_
  refine wk_getR 23 2 flJ7_105 rfl hk1 dJ7_putVal_1 ?_
  refine wk_dup dJ7_putVal_4 rfl ?_
  refine wk_astore dJ7_putVal_5 (Nat.le_of_ble_eq_true rfl) ?_
  exact wk_ifnull 19 dJ7_putVal_7 (by decide) (fun h => (wk_sub [(0, vR (some a0)), (1, vI x1), (2, vR a2), (3, vR a3), (4, vI x4), (5, vI x5)] ⟨rfl, rfl, rfl, rfl, rfl, rfl, trivial⟩ (kt h))) (fun o9 h => (kf o9 h))
theorem blJ7_putVal_10 {w : WD} {j : JB} {r : Nat} {G : GH} {a0 : Nat} {x1 : Int32} {a2 : Option Nat} {a3 : Option Nat} {x4 : Int32} {x5 : Int32} {a6 : Option Nat} {o1 : Nat}
    (e1 : a6 = some o1)
    (hk2 : 28 ≤ hp_kd G o1)
    (kt : ¬ ((nI (hp_ln G o1)) = 0) → wk_V w mJ7_putVal j 29 [(0, vR (some a0)), (1, vI x1), (2, vR a2), (3, vR a3), (4, vI x4), (5, vI x5), (6, vR a6), (8, vI (nI (hp_ln G o1)))] [] G r)
    (kf : (nI (hp_ln G o1)) = 0 → wk_V w mJ7_putVal j 19 [(0, vR (some a0)), (1, vI x1), (2, vR a2), (3, vR a3), (4, vI x4), (5, vI x5)] [] G r)
    : wk_V w mJ7_putVal j 10 [(0, vR (some a0)), (1, vI x1), (2, vR a2), (3, vR a3), (4, vI x4), (5, vI x5), (6, vR a6)] [] G r := by
  refine wk_aload dJ7_putVal_10 rfl ?_
  refine wk_e e1 ?_
  refine wk_alen hk2 dJ7_putVal_12 ?_
  refine wk_dup dJ7_putVal_13 rfl ?_
  refine wk_istore dJ7_putVal_14 (Nat.le_of_ble_eq_true rfl) ?_
  exact wk_if_ne 29 dJ7_putVal_16 (by decide) (fun h => (kt h)) (fun h => (wk_sub [(0, vR (some a0)), (1, vI x1), (2, vR a2), (3, vR a3), (4, vI x4), (5, vI x5)] ⟨rfl, rfl, rfl, rfl, rfl, rfl, trivial⟩ (kf h)))
theorem blJ7_putVal_19 {w : WD} {j : JB} {r : Nat} {G : GH} {a0 : Nat} {x1 : Int32} {a2 : Option Nat} {a3 : Option Nat} {x4 : Int32} {x5 : Int32} {d' b' : Nat} {P : Option WV → GH → Prop} {PX : String → Nat → GH → Prop}
    (hkr : hp_kd G a0 = 23)
    (hC : wk_C w mJ7_resize d' b' [vR (some a0)] G P PX)
    (hdp : d' + 1 ≤ j.1)
    (hb : b' ≤ r)
    (kr : ∀ v G', P v G' → wk_V w mJ7_putVal j 23 [(0, vR (some a0)), (1, vI x1), (2, vR a2), (3, vR a3), (4, vI x4), (5, vI x5)] (v.toList ++ []) G' (r - b'))
    (kx : ∀ E q G', PX E q G' → wk_T w mJ7_putVal j 20 [(0, vR (some a0)), (1, vI x1), (2, vR a2), (3, vR a3), (4, vI x4), (5, vI x5)] G' (r - b') E q)
    : wk_V w mJ7_putVal j 19 [(0, vR (some a0)), (1, vI x1), (2, vR a2), (3, vR a3), (4, vI x4), (5, vI x5)] [] G r := by
  refine wk_aload_n 0 dJ7_putVal_19 rfl rfl ?_
  exact wk_callV hC rfl q1569 q1570 q1571 q119 q1572 mdJ7_resize (Nat.le_of_ble_eq_true rfl) ⟨by show hp_kd G a0 ≠ 0; rw [hkr]; decide, by show hp_kd G a0 < 28; rw [hkr]; decide, by show hp_C (hp_kd G a0) = _; rw [hkr]; rfl⟩ rfl rfl (Nat.le_of_ble_eq_true rfl) hdp hb dJ7_putVal_20 kr kx
theorem blJ7_putVal_23 {w : WD} {j : JB} {r : Nat} {G : GH} {a0 : Nat} {x1 : Int32} {a2 : Option Nat} {a3 : Option Nat} {x4 : Int32} {x5 : Int32} {sa0 : Option Nat} {o1 : Nat}
    (e1 : sa0 = some o1)
    (hk2 : 28 ≤ hp_kd G o1)
    (k : wk_V w mJ7_putVal j 29 [(0, vR (some a0)), (1, vI x1), (2, vR a2), (3, vR a3), (4, vI x4), (5, vI x5), (6, vR sa0), (8, vI (nI (hp_ln G o1)))] [] G r)
    : wk_V w mJ7_putVal j 23 [(0, vR (some a0)), (1, vI x1), (2, vR a2), (3, vR a3), (4, vI x4), (5, vI x5)] [vR sa0] G r := by
  refine wk_dup dJ7_putVal_23 rfl ?_
  refine wk_astore dJ7_putVal_24 (Nat.le_of_ble_eq_true rfl) ?_
  refine wk_e e1 ?_
  refine wk_alen hk2 dJ7_putVal_26 ?_
  refine wk_istore dJ7_putVal_27 (Nat.le_of_ble_eq_true rfl) ?_
  exact k
theorem blJ7_putVal_29 {w : WD} {j : JB} {r : Nat} {G : GH} {a0 : Nat} {x1 : Int32} {a2 : Option Nat} {a3 : Option Nat} {x4 : Int32} {x5 : Int32} {a6 : Option Nat} {x8 : Int32} {o1 : Nat}
    (e1 : a6 = some o1)
    (hi2 : vp_in ((x8 - (1 : Int32)) &&& x1) (hp_ln G o1))
    (hk3 : 32 ≤ hp_kd G o1)
    (kt : ∀ o9, (hp_r G o1 ((x8 - (1 : Int32)) &&& x1).toNatClampNeg) = some o9 → wk_V w mJ7_putVal j 63 [(0, vR (some a0)), (1, vI x1), (2, vR a2), (3, vR a3), (4, vI x4), (5, vI x5), (6, vR a6), (7, vR (hp_r G o1 ((x8 - (1 : Int32)) &&& x1).toNatClampNeg))] [] G r)
    (kf : (hp_r G o1 ((x8 - (1 : Int32)) &&& x1).toNatClampNeg) = none → wk_V w mJ7_putVal j 47 [(0, vR (some a0)), (1, vI x1), (2, vR a2), (3, vR a3), (5, vI x5), (6, vR a6), (9, vI ((x8 - (1 : Int32)) &&& x1))] [] G r)
    : wk_V w mJ7_putVal j 29 [(0, vR (some a0)), (1, vI x1), (2, vR a2), (3, vR a3), (4, vI x4), (5, vI x5), (6, vR a6), (8, vI x8)] [] G r := by
  refine wk_aload dJ7_putVal_29 rfl ?_
  refine wk_iload dJ7_putVal_31 rfl ?_
  refine wk_iconst (1 : Int32) dJ7_putVal_33 (by decide) ?_
  refine wk_isub dJ7_putVal_34 ?_
  refine wk_iload_n 1 dJ7_putVal_35 rfl rfl ?_
  refine wk_iand dJ7_putVal_36 ?_
  refine wk_dup dJ7_putVal_37 rfl ?_
  refine wk_istore dJ7_putVal_38 (Nat.le_of_ble_eq_true rfl) ?_
  refine wk_e2 e1 ?_
  refine wk_aald hk3 hi2 dJ7_putVal_40 ?_
  refine wk_dup dJ7_putVal_41 rfl ?_
  refine wk_astore dJ7_putVal_42 (Nat.le_of_ble_eq_true rfl) ?_
  exact wk_ifnonnull 63 dJ7_putVal_44 (by decide) (fun o9 h => (wk_sub [(0, vR (some a0)), (1, vI x1), (2, vR a2), (3, vR a3), (4, vI x4), (5, vI x5), (6, vR a6), (7, vR (hp_r G o1 ((x8 - (1 : Int32)) &&& x1).toNatClampNeg))] ⟨rfl, rfl, rfl, rfl, rfl, rfl, rfl, rfl, trivial⟩ (kt o9 h))) (fun h => (wk_sub [(0, vR (some a0)), (1, vI x1), (2, vR a2), (3, vR a3), (5, vI x5), (6, vR a6), (9, vI ((x8 - (1 : Int32)) &&& x1))] ⟨rfl, rfl, rfl, rfl, rfl, rfl, rfl, trivial⟩ (kf h)))
theorem blJ7_putVal_47 {w : WD} {j : JB} {r : Nat} {G : GH} {a0 : Nat} {x1 : Int32} {a2 : Option Nat} {a3 : Option Nat} {x5 : Int32} {a6 : Option Nat} {x9 : Int32} {d' b' : Nat} {P : Option WV → GH → Prop} {PX : String → Nat → GH → Prop}
    (hkr : hp_kd G a0 = 23)
    (hC : wk_C w mJ7_newNode d' b' [vR (some a0), vI x1, vR a2, vR a3, vR none] G P PX)
    (hdp : d' + 1 ≤ j.1)
    (hb : b' ≤ r)
    (kr : ∀ v G', P v G' → wk_V w mJ7_putVal j 59 [(0, vR (some a0)), (5, vI x5)] (v.toList ++ [vI x9, vR a6]) G' (r - b'))
    (kx : ∀ E q G', PX E q G' → wk_T w mJ7_putVal j 56 [(0, vR (some a0)), (1, vI x1), (2, vR a2), (3, vR a3), (5, vI x5), (6, vR a6), (9, vI x9)] G' (r - b') E q)
    : wk_V w mJ7_putVal j 47 [(0, vR (some a0)), (1, vI x1), (2, vR a2), (3, vR a3), (5, vI x5), (6, vR a6), (9, vI x9)] [] G r := by
  refine wk_aload dJ7_putVal_47 rfl ?_
  refine wk_iload dJ7_putVal_49 rfl ?_
  refine wk_aload_n 0 dJ7_putVal_51 rfl rfl ?_
  refine wk_iload_n 1 dJ7_putVal_52 rfl rfl ?_
  refine wk_aload_n 2 dJ7_putVal_53 rfl rfl ?_
  refine wk_aload_n 3 dJ7_putVal_54 rfl rfl ?_
  refine wk_null dJ7_putVal_55 ?_
  exact wk_callV hC rfl q1639 q1640 q1641 q119 q1642 mdJ7_newNode (Nat.le_of_ble_eq_true rfl) ⟨by show hp_kd G a0 ≠ 0; rw [hkr]; decide, by show hp_kd G a0 < 28; rw [hkr]; decide, by show hp_C (hp_kd G a0) = _; rw [hkr]; rfl⟩ rfl rfl (Nat.le_of_ble_eq_true rfl) hdp hb dJ7_putVal_56 (fun v G' h => (wk_sub [(0, vR (some a0)), (5, vI x5)] ⟨rfl, rfl, trivial⟩ (kr v G' h))) kx
theorem blJ7_putVal_59 {w : WD} {j : JB} {r : Nat} {G : GH} {a0 : Nat} {x5 : Int32} {sa0 : Option Nat} {s1 : Int32} {sa2 : Option Nat} {o1 : Nat} {T5 : String}
    (e1 : sa0 = some o1)
    (hi2 : vp_in s1 (hp_ln G o1))
    (hA3 : hp_A w o1)
    (hk4 : 32 ≤ hp_kd G o1)
    (hT6 : hp_at (hp_kd G o1) = .object T5)
    (hx7 : ∀ b, sa2 = some b → hp_kd G b ≠ 0 ∧ hp_kd G b < 28 ∧ hp_sub (hp_kd G b) T5)
    (k : wk_V w mJ7_putVal j 259 [(0, vR (some a0)), (5, vI x5)] [] (hp_sR G o1 s1.toNatClampNeg sa2) r)
    : wk_V w mJ7_putVal j 59 [(0, vR (some a0)), (5, vI x5)] [vR sa2, vI s1, vR sa0] G r := by
  refine wk_e3 e1 ?_
  refine wk_aast hk4 hT6 hA3 hi2 hx7 dJ7_putVal_59 ?_
  exact wk_goto 259 dJ7_putVal_60 (by decide) k
theorem blJ7_putVal_63 {w : WD} {j : JB} {r : Nat} {G : GH} {a0 : Nat} {x1 : Int32} {a2 : Option Nat} {a3 : Option Nat} {x4 : Int32} {x5 : Int32} {a6 : Option Nat} {a7 : Option Nat} {o1 : Nat}
    (e1 : a7 = some o1)
    (hk2 : 24 ≤ hp_kd G o1 ∧ hp_kd G o1 ≤ 25)
    (kt : ¬ ((hp_i G o1 0) = x1) → wk_V w mJ7_putVal j 104 [(0, vR (some a0)), (1, vI x1), (2, vR a2), (3, vR a3), (4, vI x4), (5, vI x5), (6, vR a6), (7, vR a7)] [] G r)
    (kf : (hp_i G o1 0) = x1 → wk_V w mJ7_putVal j 72 [(0, vR (some a0)), (1, vI x1), (2, vR a2), (3, vR a3), (4, vI x4), (5, vI x5), (6, vR a6), (7, vR a7)] [] G r)
    : wk_V w mJ7_putVal j 63 [(0, vR (some a0)), (1, vI x1), (2, vR a2), (3, vR a3), (4, vI x4), (5, vI x5), (6, vR a6), (7, vR a7)] [] G r := by
  refine wk_aload dJ7_putVal_63 rfl ?_
  refine wk_e e1 ?_
  refine wk_getI (hp_kd G o1) 0 (flJ7_168 _ hk2.1 hk2.2) (flJ7_168_t _ hk2.1 hk2.2).1 rfl dJ7_putVal_65 ?_
  refine wk_iload_n 1 dJ7_putVal_68 rfl rfl ?_
  exact wk_icmp_ne 104 dJ7_putVal_69 (by decide) (fun h => (kt h)) (fun h => (kf h))
theorem blJ7_putVal_72 {w : WD} {j : JB} {r : Nat} {G : GH} {a0 : Nat} {x1 : Int32} {a2 : Option Nat} {a3 : Option Nat} {x4 : Int32} {x5 : Int32} {a6 : Option Nat} {a7 : Option Nat} {o1 : Nat}
    (e1 : a7 = some o1)
    (hk2 : 24 ≤ hp_kd G o1 ∧ hp_kd G o1 ≤ 25)
    (kt : (hp_r G o1 1) = a2 → wk_V w mJ7_putVal j 97 [(0, vR (some a0)), (3, vR a3), (4, vI x4), (5, vI x5), (7, vR a7)] [] G r)
    (kf : ¬ ((hp_r G o1 1) = a2) → wk_V w mJ7_putVal j 84 [(0, vR (some a0)), (1, vI x1), (2, vR a2), (3, vR a3), (4, vI x4), (5, vI x5), (6, vR a6), (7, vR a7), (11, vR (hp_r G o1 1))] [] G r)
    : wk_V w mJ7_putVal j 72 [(0, vR (some a0)), (1, vI x1), (2, vR a2), (3, vR a3), (4, vI x4), (5, vI x5), (6, vR a6), (7, vR a7)] [] G r := by
  refine wk_aload dJ7_putVal_72 rfl ?_
  refine wk_e e1 ?_
  refine wk_getR (hp_kd G o1) 1 (flJ7_170 _ hk2.1 hk2.2) (flJ7_170_t _ hk2.1 hk2.2).1 rfl dJ7_putVal_74 ?_
  refine wk_dup dJ7_putVal_77 rfl ?_
  refine wk_astore dJ7_putVal_78 (Nat.le_of_ble_eq_true rfl) ?_
  refine wk_aload_n 2 dJ7_putVal_80 rfl rfl ?_
  exact wk_acmp_eq 97 dJ7_putVal_81 (by decide) (fun h => (wk_sub [(0, vR (some a0)), (3, vR a3), (4, vI x4), (5, vI x5), (7, vR a7)] ⟨rfl, rfl, rfl, rfl, rfl, trivial⟩ (kt h))) (fun h => (kf h))
theorem blJ7_putVal_84 {w : WD} {j : JB} {r : Nat} {G : GH} {a0 : Nat} {x1 : Int32} {a2 : Option Nat} {a3 : Option Nat} {x4 : Int32} {x5 : Int32} {a6 : Option Nat} {a7 : Option Nat} {a11 : Option Nat}
    (kt : a2 = none → wk_V w mJ7_putVal j 104 [(0, vR (some a0)), (1, vI x1), (2, vR a2), (3, vR a3), (4, vI x4), (5, vI x5), (6, vR a6), (7, vR a7)] [] G r)
    (kf : ∀ o9, a2 = some o9 → wk_V w mJ7_putVal j 88 [(0, vR (some a0)), (1, vI x1), (2, vR a2), (3, vR a3), (4, vI x4), (5, vI x5), (6, vR a6), (7, vR a7), (11, vR a11)] [] G r)
    : wk_V w mJ7_putVal j 84 [(0, vR (some a0)), (1, vI x1), (2, vR a2), (3, vR a3), (4, vI x4), (5, vI x5), (6, vR a6), (7, vR a7), (11, vR a11)] [] G r := by
  refine wk_aload_n 2 dJ7_putVal_84 rfl rfl ?_
  exact wk_ifnull 104 dJ7_putVal_85 (by decide) (fun h => (wk_sub [(0, vR (some a0)), (1, vI x1), (2, vR a2), (3, vR a3), (4, vI x4), (5, vI x5), (6, vR a6), (7, vR a7)] ⟨rfl, rfl, rfl, rfl, rfl, rfl, rfl, rfl, trivial⟩ (kt h))) (fun o9 h => (kf o9 h))
theorem blJ7_putVal_88_k2 {w : WD} {j : JB} {r : Nat} {G : GH} {a0 : Nat} {x1 : Int32} {a2 : Option Nat} {a3 : Option Nat} {x4 : Int32} {x5 : Int32} {a6 : Option Nat} {a7 : Option Nat} {a11 : Option Nat} {o1 : Nat} {d' b' : Nat} {P : Option WV → GH → Prop} {PX : String → Nat → GH → Prop}
    (e1 : a2 = some o1)
    (hkr : hp_kd G o1 = 2)
    (hC : wk_C w mJ28_equals d' b' [vR (some o1), vR a11] G P PX)
    (hdp : d' + 1 ≤ j.1)
    (hb : b' ≤ r)
    (kr : ∀ v G', P v G' → wk_V w mJ7_putVal j 94 [(0, vR (some a0)), (1, vI x1), (2, vR a2), (3, vR a3), (4, vI x4), (5, vI x5), (6, vR a6), (7, vR a7)] (v.toList ++ []) G' (r - b'))
    (kx : ∀ E q G', PX E q G' → wk_T w mJ7_putVal j 91 [(0, vR (some a0)), (1, vI x1), (2, vR a2), (3, vR a3), (4, vI x4), (5, vI x5), (6, vR a6), (7, vR a7), (11, vR a11)] G' (r - b') E q)
    : wk_V w mJ7_putVal j 88 [(0, vR (some a0)), (1, vI x1), (2, vR a2), (3, vR a3), (4, vI x4), (5, vI x5), (6, vR a6), (7, vR a7), (11, vR a11)] [] G r := by
  refine wk_aload_n 2 dJ7_putVal_88 rfl rfl ?_
  refine wk_aload dJ7_putVal_89 rfl ?_
  refine wk_eAt 1 e1 rfl ?_
  exact wk_callU (n := 1) (x := ⟨"java/lang/Object", "equals", "(Ljava/lang/Object;)Z"⟩) "java/lang/Object" hC rfl (Or.inl (by decide +kernel)) q1047 q1049 q1048 (by show Cond.selects (hp_C (hp_kd G o1)) _ _ ∈ lw_all; rw [hkr]; exact q1050) q3225 q1081 (by decide +kernel) (Nat.le_of_ble_eq_true rfl) ⟨by show hp_kd G o1 ≠ 0; rw [hkr]; decide, by show hp_kd G o1 < 28; rw [hkr]; decide⟩ rfl rfl (Nat.le_of_ble_eq_true rfl) hdp hb dJ7_putVal_91 (fun v G' h => (wk_sub [(0, vR (some a0)), (1, vI x1), (2, vR a2), (3, vR a3), (4, vI x4), (5, vI x5), (6, vR a6), (7, vR a7)] ⟨rfl, rfl, rfl, rfl, rfl, rfl, rfl, rfl, trivial⟩ (kr v G' h))) kx
theorem blJ7_putVal_88_k5 {w : WD} {j : JB} {r : Nat} {G : GH} {a0 : Nat} {x1 : Int32} {a2 : Option Nat} {a3 : Option Nat} {x4 : Int32} {x5 : Int32} {a6 : Option Nat} {a7 : Option Nat} {a11 : Option Nat} {o1 : Nat} {d' b' : Nat} {P : Option WV → GH → Prop} {PX : String → Nat → GH → Prop}
    (e1 : a2 = some o1)
    (hkr : hp_kd G o1 = 5)
    (hC : wk_C w mJ28_equals d' b' [vR (some o1), vR a11] G P PX)
    (hdp : d' + 1 ≤ j.1)
    (hb : b' ≤ r)
    (kr : ∀ v G', P v G' → wk_V w mJ7_putVal j 94 [(0, vR (some a0)), (1, vI x1), (2, vR a2), (3, vR a3), (4, vI x4), (5, vI x5), (6, vR a6), (7, vR a7)] (v.toList ++ []) G' (r - b'))
    (kx : ∀ E q G', PX E q G' → wk_T w mJ7_putVal j 91 [(0, vR (some a0)), (1, vI x1), (2, vR a2), (3, vR a3), (4, vI x4), (5, vI x5), (6, vR a6), (7, vR a7), (11, vR a11)] G' (r - b') E q)
    : wk_V w mJ7_putVal j 88 [(0, vR (some a0)), (1, vI x1), (2, vR a2), (3, vR a3), (4, vI x4), (5, vI x5), (6, vR a6), (7, vR a7), (11, vR a11)] [] G r := by
  refine wk_aload_n 2 dJ7_putVal_88 rfl rfl ?_
  refine wk_aload dJ7_putVal_89 rfl ?_
  refine wk_eAt 1 e1 rfl ?_
  exact wk_callU (n := 1) (x := ⟨"java/lang/Object", "equals", "(Ljava/lang/Object;)Z"⟩) "java/lang/Object" hC rfl (Or.inl (by decide +kernel)) q1047 q1049 q1048 (by show Cond.selects (hp_C (hp_kd G o1)) _ _ ∈ lw_all; rw [hkr]; exact q1051) q3225 q1081 (by decide +kernel) (Nat.le_of_ble_eq_true rfl) ⟨by show hp_kd G o1 ≠ 0; rw [hkr]; decide, by show hp_kd G o1 < 28; rw [hkr]; decide⟩ rfl rfl (Nat.le_of_ble_eq_true rfl) hdp hb dJ7_putVal_91 (fun v G' h => (wk_sub [(0, vR (some a0)), (1, vI x1), (2, vR a2), (3, vR a3), (4, vI x4), (5, vI x5), (6, vR a6), (7, vR a7)] ⟨rfl, rfl, rfl, rfl, rfl, rfl, rfl, rfl, trivial⟩ (kr v G' h))) kx
theorem blJ7_putVal_88_k18 {w : WD} {j : JB} {r : Nat} {G : GH} {a0 : Nat} {x1 : Int32} {a2 : Option Nat} {a3 : Option Nat} {x4 : Int32} {x5 : Int32} {a6 : Option Nat} {a7 : Option Nat} {a11 : Option Nat} {o1 : Nat} {d' b' : Nat} {P : Option WV → GH → Prop} {PX : String → Nat → GH → Prop}
    (e1 : a2 = some o1)
    (hkr : hp_kd G o1 = 18)
    (hC : wk_C w mJ28_equals d' b' [vR (some o1), vR a11] G P PX)
    (hdp : d' + 1 ≤ j.1)
    (hb : b' ≤ r)
    (kr : ∀ v G', P v G' → wk_V w mJ7_putVal j 94 [(0, vR (some a0)), (1, vI x1), (2, vR a2), (3, vR a3), (4, vI x4), (5, vI x5), (6, vR a6), (7, vR a7)] (v.toList ++ []) G' (r - b'))
    (kx : ∀ E q G', PX E q G' → wk_T w mJ7_putVal j 91 [(0, vR (some a0)), (1, vI x1), (2, vR a2), (3, vR a3), (4, vI x4), (5, vI x5), (6, vR a6), (7, vR a7), (11, vR a11)] G' (r - b') E q)
    : wk_V w mJ7_putVal j 88 [(0, vR (some a0)), (1, vI x1), (2, vR a2), (3, vR a3), (4, vI x4), (5, vI x5), (6, vR a6), (7, vR a7), (11, vR a11)] [] G r := by
  refine wk_aload_n 2 dJ7_putVal_88 rfl rfl ?_
  refine wk_aload dJ7_putVal_89 rfl ?_
  refine wk_eAt 1 e1 rfl ?_
  exact wk_callU (n := 1) (x := ⟨"java/lang/Object", "equals", "(Ljava/lang/Object;)Z"⟩) "java/lang/Object" hC rfl (Or.inl (by decide +kernel)) q1047 q1049 q1048 (by show Cond.selects (hp_C (hp_kd G o1)) _ _ ∈ lw_all; rw [hkr]; exact q1052) q3225 q1081 (by decide +kernel) (Nat.le_of_ble_eq_true rfl) ⟨by show hp_kd G o1 ≠ 0; rw [hkr]; decide, by show hp_kd G o1 < 28; rw [hkr]; decide⟩ rfl rfl (Nat.le_of_ble_eq_true rfl) hdp hb dJ7_putVal_91 (fun v G' h => (wk_sub [(0, vR (some a0)), (1, vI x1), (2, vR a2), (3, vR a3), (4, vI x4), (5, vI x5), (6, vR a6), (7, vR a7)] ⟨rfl, rfl, rfl, rfl, rfl, rfl, rfl, rfl, trivial⟩ (kr v G' h))) kx
theorem blJ7_putVal_88_k21 {w : WD} {j : JB} {r : Nat} {G : GH} {a0 : Nat} {x1 : Int32} {a2 : Option Nat} {a3 : Option Nat} {x4 : Int32} {x5 : Int32} {a6 : Option Nat} {a7 : Option Nat} {a11 : Option Nat} {o1 : Nat} {d' b' : Nat} {P : Option WV → GH → Prop} {PX : String → Nat → GH → Prop}
    (e1 : a2 = some o1)
    (hkr : hp_kd G o1 = 21)
    (hC : wk_C w mJ28_equals d' b' [vR (some o1), vR a11] G P PX)
    (hdp : d' + 1 ≤ j.1)
    (hb : b' ≤ r)
    (kr : ∀ v G', P v G' → wk_V w mJ7_putVal j 94 [(0, vR (some a0)), (1, vI x1), (2, vR a2), (3, vR a3), (4, vI x4), (5, vI x5), (6, vR a6), (7, vR a7)] (v.toList ++ []) G' (r - b'))
    (kx : ∀ E q G', PX E q G' → wk_T w mJ7_putVal j 91 [(0, vR (some a0)), (1, vI x1), (2, vR a2), (3, vR a3), (4, vI x4), (5, vI x5), (6, vR a6), (7, vR a7), (11, vR a11)] G' (r - b') E q)
    : wk_V w mJ7_putVal j 88 [(0, vR (some a0)), (1, vI x1), (2, vR a2), (3, vR a3), (4, vI x4), (5, vI x5), (6, vR a6), (7, vR a7), (11, vR a11)] [] G r := by
  refine wk_aload_n 2 dJ7_putVal_88 rfl rfl ?_
  refine wk_aload dJ7_putVal_89 rfl ?_
  refine wk_eAt 1 e1 rfl ?_
  exact wk_callU (n := 1) (x := ⟨"java/lang/Object", "equals", "(Ljava/lang/Object;)Z"⟩) "java/lang/Object" hC rfl (Or.inl (by decide +kernel)) q1047 q1049 q1048 (by show Cond.selects (hp_C (hp_kd G o1)) _ _ ∈ lw_all; rw [hkr]; exact q1053) q3225 q1081 (by decide +kernel) (Nat.le_of_ble_eq_true rfl) ⟨by show hp_kd G o1 ≠ 0; rw [hkr]; decide, by show hp_kd G o1 < 28; rw [hkr]; decide⟩ rfl rfl (Nat.le_of_ble_eq_true rfl) hdp hb dJ7_putVal_91 (fun v G' h => (wk_sub [(0, vR (some a0)), (1, vI x1), (2, vR a2), (3, vR a3), (4, vI x4), (5, vI x5), (6, vR a6), (7, vR a7)] ⟨rfl, rfl, rfl, rfl, rfl, rfl, rfl, rfl, trivial⟩ (kr v G' h))) kx
theorem blJ7_putVal_88_k16 {w : WD} {j : JB} {r : Nat} {G : GH} {a0 : Nat} {x1 : Int32} {a2 : Option Nat} {a3 : Option Nat} {x4 : Int32} {x5 : Int32} {a6 : Option Nat} {a7 : Option Nat} {a11 : Option Nat} {o1 : Nat} {d' b' : Nat} {P : Option WV → GH → Prop} {PX : String → Nat → GH → Prop}
    (e1 : a2 = some o1)
    (hkr : hp_kd G o1 = 16)
    (hC : wk_C w mJ28_equals d' b' [vR (some o1), vR a11] G P PX)
    (hdp : d' + 1 ≤ j.1)
    (hb : b' ≤ r)
    (kr : ∀ v G', P v G' → wk_V w mJ7_putVal j 94 [(0, vR (some a0)), (1, vI x1), (2, vR a2), (3, vR a3), (4, vI x4), (5, vI x5), (6, vR a6), (7, vR a7)] (v.toList ++ []) G' (r - b'))
    (kx : ∀ E q G', PX E q G' → wk_T w mJ7_putVal j 91 [(0, vR (some a0)), (1, vI x1), (2, vR a2), (3, vR a3), (4, vI x4), (5, vI x5), (6, vR a6), (7, vR a7), (11, vR a11)] G' (r - b') E q)
    : wk_V w mJ7_putVal j 88 [(0, vR (some a0)), (1, vI x1), (2, vR a2), (3, vR a3), (4, vI x4), (5, vI x5), (6, vR a6), (7, vR a7), (11, vR a11)] [] G r := by
  refine wk_aload_n 2 dJ7_putVal_88 rfl rfl ?_
  refine wk_aload dJ7_putVal_89 rfl ?_
  refine wk_eAt 1 e1 rfl ?_
  exact wk_callU (n := 1) (x := ⟨"java/lang/Object", "equals", "(Ljava/lang/Object;)Z"⟩) "java/lang/Object" hC rfl (Or.inl (by decide +kernel)) q1047 q1049 q1048 (by show Cond.selects (hp_C (hp_kd G o1)) _ _ ∈ lw_all; rw [hkr]; exact q1054) q3225 q1081 (by decide +kernel) (Nat.le_of_ble_eq_true rfl) ⟨by show hp_kd G o1 ≠ 0; rw [hkr]; decide, by show hp_kd G o1 < 28; rw [hkr]; decide⟩ rfl rfl (Nat.le_of_ble_eq_true rfl) hdp hb dJ7_putVal_91 (fun v G' h => (wk_sub [(0, vR (some a0)), (1, vI x1), (2, vR a2), (3, vR a3), (4, vI x4), (5, vI x5), (6, vR a6), (7, vR a7)] ⟨rfl, rfl, rfl, rfl, rfl, rfl, rfl, rfl, trivial⟩ (kr v G' h))) kx
theorem blJ7_putVal_88_k13 {w : WD} {j : JB} {r : Nat} {G : GH} {a0 : Nat} {x1 : Int32} {a2 : Option Nat} {a3 : Option Nat} {x4 : Int32} {x5 : Int32} {a6 : Option Nat} {a7 : Option Nat} {a11 : Option Nat} {o1 : Nat} {d' b' : Nat} {P : Option WV → GH → Prop} {PX : String → Nat → GH → Prop}
    (e1 : a2 = some o1)
    (hkr : hp_kd G o1 = 13)
    (hC : wk_C w mJ28_equals d' b' [vR (some o1), vR a11] G P PX)
    (hdp : d' + 1 ≤ j.1)
    (hb : b' ≤ r)
    (kr : ∀ v G', P v G' → wk_V w mJ7_putVal j 94 [(0, vR (some a0)), (1, vI x1), (2, vR a2), (3, vR a3), (4, vI x4), (5, vI x5), (6, vR a6), (7, vR a7)] (v.toList ++ []) G' (r - b'))
    (kx : ∀ E q G', PX E q G' → wk_T w mJ7_putVal j 91 [(0, vR (some a0)), (1, vI x1), (2, vR a2), (3, vR a3), (4, vI x4), (5, vI x5), (6, vR a6), (7, vR a7), (11, vR a11)] G' (r - b') E q)
    : wk_V w mJ7_putVal j 88 [(0, vR (some a0)), (1, vI x1), (2, vR a2), (3, vR a3), (4, vI x4), (5, vI x5), (6, vR a6), (7, vR a7), (11, vR a11)] [] G r := by
  refine wk_aload_n 2 dJ7_putVal_88 rfl rfl ?_
  refine wk_aload dJ7_putVal_89 rfl ?_
  refine wk_eAt 1 e1 rfl ?_
  exact wk_callU (n := 1) (x := ⟨"java/lang/Object", "equals", "(Ljava/lang/Object;)Z"⟩) "java/lang/Object" hC rfl (Or.inl (by decide +kernel)) q1047 q1049 q1048 (by show Cond.selects (hp_C (hp_kd G o1)) _ _ ∈ lw_all; rw [hkr]; exact q1055) q3225 q1081 (by decide +kernel) (Nat.le_of_ble_eq_true rfl) ⟨by show hp_kd G o1 ≠ 0; rw [hkr]; decide, by show hp_kd G o1 < 28; rw [hkr]; decide⟩ rfl rfl (Nat.le_of_ble_eq_true rfl) hdp hb dJ7_putVal_91 (fun v G' h => (wk_sub [(0, vR (some a0)), (1, vI x1), (2, vR a2), (3, vR a3), (4, vI x4), (5, vI x5), (6, vR a6), (7, vR a7)] ⟨rfl, rfl, rfl, rfl, rfl, rfl, rfl, rfl, trivial⟩ (kr v G' h))) kx
theorem blJ7_putVal_88_k20 {w : WD} {j : JB} {r : Nat} {G : GH} {a0 : Nat} {x1 : Int32} {a2 : Option Nat} {a3 : Option Nat} {x4 : Int32} {x5 : Int32} {a6 : Option Nat} {a7 : Option Nat} {a11 : Option Nat} {o1 : Nat} {d' b' : Nat} {P : Option WV → GH → Prop} {PX : String → Nat → GH → Prop}
    (e1 : a2 = some o1)
    (hkr : hp_kd G o1 = 20)
    (hC : wk_C w mJ28_equals d' b' [vR (some o1), vR a11] G P PX)
    (hdp : d' + 1 ≤ j.1)
    (hb : b' ≤ r)
    (kr : ∀ v G', P v G' → wk_V w mJ7_putVal j 94 [(0, vR (some a0)), (1, vI x1), (2, vR a2), (3, vR a3), (4, vI x4), (5, vI x5), (6, vR a6), (7, vR a7)] (v.toList ++ []) G' (r - b'))
    (kx : ∀ E q G', PX E q G' → wk_T w mJ7_putVal j 91 [(0, vR (some a0)), (1, vI x1), (2, vR a2), (3, vR a3), (4, vI x4), (5, vI x5), (6, vR a6), (7, vR a7), (11, vR a11)] G' (r - b') E q)
    : wk_V w mJ7_putVal j 88 [(0, vR (some a0)), (1, vI x1), (2, vR a2), (3, vR a3), (4, vI x4), (5, vI x5), (6, vR a6), (7, vR a7), (11, vR a11)] [] G r := by
  refine wk_aload_n 2 dJ7_putVal_88 rfl rfl ?_
  refine wk_aload dJ7_putVal_89 rfl ?_
  refine wk_eAt 1 e1 rfl ?_
  exact wk_callU (n := 1) (x := ⟨"java/lang/Object", "equals", "(Ljava/lang/Object;)Z"⟩) "java/lang/Object" hC rfl (Or.inl (by decide +kernel)) q1047 q1049 q1048 (by show Cond.selects (hp_C (hp_kd G o1)) _ _ ∈ lw_all; rw [hkr]; exact q1056) q3225 q1081 (by decide +kernel) (Nat.le_of_ble_eq_true rfl) ⟨by show hp_kd G o1 ≠ 0; rw [hkr]; decide, by show hp_kd G o1 < 28; rw [hkr]; decide⟩ rfl rfl (Nat.le_of_ble_eq_true rfl) hdp hb dJ7_putVal_91 (fun v G' h => (wk_sub [(0, vR (some a0)), (1, vI x1), (2, vR a2), (3, vR a3), (4, vI x4), (5, vI x5), (6, vR a6), (7, vR a7)] ⟨rfl, rfl, rfl, rfl, rfl, rfl, rfl, rfl, trivial⟩ (kr v G' h))) kx
theorem blJ7_putVal_88_k7 {w : WD} {j : JB} {r : Nat} {G : GH} {a0 : Nat} {x1 : Int32} {a2 : Option Nat} {a3 : Option Nat} {x4 : Int32} {x5 : Int32} {a6 : Option Nat} {a7 : Option Nat} {a11 : Option Nat} {o1 : Nat} {d' b' : Nat} {P : Option WV → GH → Prop} {PX : String → Nat → GH → Prop}
    (e1 : a2 = some o1)
    (hkr : hp_kd G o1 = 7)
    (hC : wk_C w mJ28_equals d' b' [vR (some o1), vR a11] G P PX)
    (hdp : d' + 1 ≤ j.1)
    (hb : b' ≤ r)
    (kr : ∀ v G', P v G' → wk_V w mJ7_putVal j 94 [(0, vR (some a0)), (1, vI x1), (2, vR a2), (3, vR a3), (4, vI x4), (5, vI x5), (6, vR a6), (7, vR a7)] (v.toList ++ []) G' (r - b'))
    (kx : ∀ E q G', PX E q G' → wk_T w mJ7_putVal j 91 [(0, vR (some a0)), (1, vI x1), (2, vR a2), (3, vR a3), (4, vI x4), (5, vI x5), (6, vR a6), (7, vR a7), (11, vR a11)] G' (r - b') E q)
    : wk_V w mJ7_putVal j 88 [(0, vR (some a0)), (1, vI x1), (2, vR a2), (3, vR a3), (4, vI x4), (5, vI x5), (6, vR a6), (7, vR a7), (11, vR a11)] [] G r := by
  refine wk_aload_n 2 dJ7_putVal_88 rfl rfl ?_
  refine wk_aload dJ7_putVal_89 rfl ?_
  refine wk_eAt 1 e1 rfl ?_
  exact wk_callU (n := 1) (x := ⟨"java/lang/Object", "equals", "(Ljava/lang/Object;)Z"⟩) "java/lang/Object" hC rfl (Or.inl (by decide +kernel)) q1047 q1049 q1048 (by show Cond.selects (hp_C (hp_kd G o1)) _ _ ∈ lw_all; rw [hkr]; exact q1057) q3225 q1081 (by decide +kernel) (Nat.le_of_ble_eq_true rfl) ⟨by show hp_kd G o1 ≠ 0; rw [hkr]; decide, by show hp_kd G o1 < 28; rw [hkr]; decide⟩ rfl rfl (Nat.le_of_ble_eq_true rfl) hdp hb dJ7_putVal_91 (fun v G' h => (wk_sub [(0, vR (some a0)), (1, vI x1), (2, vR a2), (3, vR a3), (4, vI x4), (5, vI x5), (6, vR a6), (7, vR a7)] ⟨rfl, rfl, rfl, rfl, rfl, rfl, rfl, rfl, trivial⟩ (kr v G' h))) kx
theorem blJ7_putVal_88_k17 {w : WD} {j : JB} {r : Nat} {G : GH} {a0 : Nat} {x1 : Int32} {a2 : Option Nat} {a3 : Option Nat} {x4 : Int32} {x5 : Int32} {a6 : Option Nat} {a7 : Option Nat} {a11 : Option Nat} {o1 : Nat} {d' b' : Nat} {P : Option WV → GH → Prop} {PX : String → Nat → GH → Prop}
    (e1 : a2 = some o1)
    (hkr : hp_kd G o1 = 17)
    (hC : wk_C w mJ28_equals d' b' [vR (some o1), vR a11] G P PX)
    (hdp : d' + 1 ≤ j.1)
    (hb : b' ≤ r)
    (kr : ∀ v G', P v G' → wk_V w mJ7_putVal j 94 [(0, vR (some a0)), (1, vI x1), (2, vR a2), (3, vR a3), (4, vI x4), (5, vI x5), (6, vR a6), (7, vR a7)] (v.toList ++ []) G' (r - b'))
    (kx : ∀ E q G', PX E q G' → wk_T w mJ7_putVal j 91 [(0, vR (some a0)), (1, vI x1), (2, vR a2), (3, vR a3), (4, vI x4), (5, vI x5), (6, vR a6), (7, vR a7), (11, vR a11)] G' (r - b') E q)
    : wk_V w mJ7_putVal j 88 [(0, vR (some a0)), (1, vI x1), (2, vR a2), (3, vR a3), (4, vI x4), (5, vI x5), (6, vR a6), (7, vR a7), (11, vR a11)] [] G r := by
  refine wk_aload_n 2 dJ7_putVal_88 rfl rfl ?_
  refine wk_aload dJ7_putVal_89 rfl ?_
  refine wk_eAt 1 e1 rfl ?_
  exact wk_callU (n := 1) (x := ⟨"java/lang/Object", "equals", "(Ljava/lang/Object;)Z"⟩) "java/lang/Object" hC rfl (Or.inl (by decide +kernel)) q1047 q1049 q1048 (by show Cond.selects (hp_C (hp_kd G o1)) _ _ ∈ lw_all; rw [hkr]; exact q1058) q3225 q1081 (by decide +kernel) (Nat.le_of_ble_eq_true rfl) ⟨by show hp_kd G o1 ≠ 0; rw [hkr]; decide, by show hp_kd G o1 < 28; rw [hkr]; decide⟩ rfl rfl (Nat.le_of_ble_eq_true rfl) hdp hb dJ7_putVal_91 (fun v G' h => (wk_sub [(0, vR (some a0)), (1, vI x1), (2, vR a2), (3, vR a3), (4, vI x4), (5, vI x5), (6, vR a6), (7, vR a7)] ⟨rfl, rfl, rfl, rfl, rfl, rfl, rfl, rfl, trivial⟩ (kr v G' h))) kx
theorem blJ7_putVal_88_k9 {w : WD} {j : JB} {r : Nat} {G : GH} {a0 : Nat} {x1 : Int32} {a2 : Option Nat} {a3 : Option Nat} {x4 : Int32} {x5 : Int32} {a6 : Option Nat} {a7 : Option Nat} {a11 : Option Nat} {o1 : Nat} {d' b' : Nat} {P : Option WV → GH → Prop} {PX : String → Nat → GH → Prop}
    (e1 : a2 = some o1)
    (hkr : hp_kd G o1 = 9)
    (hC : wk_C w mJ28_equals d' b' [vR (some o1), vR a11] G P PX)
    (hdp : d' + 1 ≤ j.1)
    (hb : b' ≤ r)
    (kr : ∀ v G', P v G' → wk_V w mJ7_putVal j 94 [(0, vR (some a0)), (1, vI x1), (2, vR a2), (3, vR a3), (4, vI x4), (5, vI x5), (6, vR a6), (7, vR a7)] (v.toList ++ []) G' (r - b'))
    (kx : ∀ E q G', PX E q G' → wk_T w mJ7_putVal j 91 [(0, vR (some a0)), (1, vI x1), (2, vR a2), (3, vR a3), (4, vI x4), (5, vI x5), (6, vR a6), (7, vR a7), (11, vR a11)] G' (r - b') E q)
    : wk_V w mJ7_putVal j 88 [(0, vR (some a0)), (1, vI x1), (2, vR a2), (3, vR a3), (4, vI x4), (5, vI x5), (6, vR a6), (7, vR a7), (11, vR a11)] [] G r := by
  refine wk_aload_n 2 dJ7_putVal_88 rfl rfl ?_
  refine wk_aload dJ7_putVal_89 rfl ?_
  refine wk_eAt 1 e1 rfl ?_
  exact wk_callU (n := 1) (x := ⟨"java/lang/Object", "equals", "(Ljava/lang/Object;)Z"⟩) "java/lang/Object" hC rfl (Or.inl (by decide +kernel)) q1047 q1049 q1048 (by show Cond.selects (hp_C (hp_kd G o1)) _ _ ∈ lw_all; rw [hkr]; exact q1059) q3225 q1081 (by decide +kernel) (Nat.le_of_ble_eq_true rfl) ⟨by show hp_kd G o1 ≠ 0; rw [hkr]; decide, by show hp_kd G o1 < 28; rw [hkr]; decide⟩ rfl rfl (Nat.le_of_ble_eq_true rfl) hdp hb dJ7_putVal_91 (fun v G' h => (wk_sub [(0, vR (some a0)), (1, vI x1), (2, vR a2), (3, vR a3), (4, vI x4), (5, vI x5), (6, vR a6), (7, vR a7)] ⟨rfl, rfl, rfl, rfl, rfl, rfl, rfl, rfl, trivial⟩ (kr v G' h))) kx
theorem blJ7_putVal_88_k11 {w : WD} {j : JB} {r : Nat} {G : GH} {a0 : Nat} {x1 : Int32} {a2 : Option Nat} {a3 : Option Nat} {x4 : Int32} {x5 : Int32} {a6 : Option Nat} {a7 : Option Nat} {a11 : Option Nat} {o1 : Nat} {d' b' : Nat} {P : Option WV → GH → Prop} {PX : String → Nat → GH → Prop}
    (e1 : a2 = some o1)
    (hkr : hp_kd G o1 = 11)
    (hC : wk_C w mJ28_equals d' b' [vR (some o1), vR a11] G P PX)
    (hdp : d' + 1 ≤ j.1)
    (hb : b' ≤ r)
    (kr : ∀ v G', P v G' → wk_V w mJ7_putVal j 94 [(0, vR (some a0)), (1, vI x1), (2, vR a2), (3, vR a3), (4, vI x4), (5, vI x5), (6, vR a6), (7, vR a7)] (v.toList ++ []) G' (r - b'))
    (kx : ∀ E q G', PX E q G' → wk_T w mJ7_putVal j 91 [(0, vR (some a0)), (1, vI x1), (2, vR a2), (3, vR a3), (4, vI x4), (5, vI x5), (6, vR a6), (7, vR a7), (11, vR a11)] G' (r - b') E q)
    : wk_V w mJ7_putVal j 88 [(0, vR (some a0)), (1, vI x1), (2, vR a2), (3, vR a3), (4, vI x4), (5, vI x5), (6, vR a6), (7, vR a7), (11, vR a11)] [] G r := by
  refine wk_aload_n 2 dJ7_putVal_88 rfl rfl ?_
  refine wk_aload dJ7_putVal_89 rfl ?_
  refine wk_eAt 1 e1 rfl ?_
  exact wk_callU (n := 1) (x := ⟨"java/lang/Object", "equals", "(Ljava/lang/Object;)Z"⟩) "java/lang/Object" hC rfl (Or.inl (by decide +kernel)) q1047 q1049 q1048 (by show Cond.selects (hp_C (hp_kd G o1)) _ _ ∈ lw_all; rw [hkr]; exact q1060) q3225 q1081 (by decide +kernel) (Nat.le_of_ble_eq_true rfl) ⟨by show hp_kd G o1 ≠ 0; rw [hkr]; decide, by show hp_kd G o1 < 28; rw [hkr]; decide⟩ rfl rfl (Nat.le_of_ble_eq_true rfl) hdp hb dJ7_putVal_91 (fun v G' h => (wk_sub [(0, vR (some a0)), (1, vI x1), (2, vR a2), (3, vR a3), (4, vI x4), (5, vI x5), (6, vR a6), (7, vR a7)] ⟨rfl, rfl, rfl, rfl, rfl, rfl, rfl, rfl, trivial⟩ (kr v G' h))) kx
theorem blJ7_putVal_88_k14 {w : WD} {j : JB} {r : Nat} {G : GH} {a0 : Nat} {x1 : Int32} {a2 : Option Nat} {a3 : Option Nat} {x4 : Int32} {x5 : Int32} {a6 : Option Nat} {a7 : Option Nat} {a11 : Option Nat} {o1 : Nat} {d' b' : Nat} {P : Option WV → GH → Prop} {PX : String → Nat → GH → Prop}
    (e1 : a2 = some o1)
    (hkr : hp_kd G o1 = 14)
    (hC : wk_C w mJ28_equals d' b' [vR (some o1), vR a11] G P PX)
    (hdp : d' + 1 ≤ j.1)
    (hb : b' ≤ r)
    (kr : ∀ v G', P v G' → wk_V w mJ7_putVal j 94 [(0, vR (some a0)), (1, vI x1), (2, vR a2), (3, vR a3), (4, vI x4), (5, vI x5), (6, vR a6), (7, vR a7)] (v.toList ++ []) G' (r - b'))
    (kx : ∀ E q G', PX E q G' → wk_T w mJ7_putVal j 91 [(0, vR (some a0)), (1, vI x1), (2, vR a2), (3, vR a3), (4, vI x4), (5, vI x5), (6, vR a6), (7, vR a7), (11, vR a11)] G' (r - b') E q)
    : wk_V w mJ7_putVal j 88 [(0, vR (some a0)), (1, vI x1), (2, vR a2), (3, vR a3), (4, vI x4), (5, vI x5), (6, vR a6), (7, vR a7), (11, vR a11)] [] G r := by
  refine wk_aload_n 2 dJ7_putVal_88 rfl rfl ?_
  refine wk_aload dJ7_putVal_89 rfl ?_
  refine wk_eAt 1 e1 rfl ?_
  exact wk_callU (n := 1) (x := ⟨"java/lang/Object", "equals", "(Ljava/lang/Object;)Z"⟩) "java/lang/Object" hC rfl (Or.inl (by decide +kernel)) q1047 q1049 q1048 (by show Cond.selects (hp_C (hp_kd G o1)) _ _ ∈ lw_all; rw [hkr]; exact q1061) q3225 q1081 (by decide +kernel) (Nat.le_of_ble_eq_true rfl) ⟨by show hp_kd G o1 ≠ 0; rw [hkr]; decide, by show hp_kd G o1 < 28; rw [hkr]; decide⟩ rfl rfl (Nat.le_of_ble_eq_true rfl) hdp hb dJ7_putVal_91 (fun v G' h => (wk_sub [(0, vR (some a0)), (1, vI x1), (2, vR a2), (3, vR a3), (4, vI x4), (5, vI x5), (6, vR a6), (7, vR a7)] ⟨rfl, rfl, rfl, rfl, rfl, rfl, rfl, rfl, trivial⟩ (kr v G' h))) kx
theorem blJ7_putVal_88_k8 {w : WD} {j : JB} {r : Nat} {G : GH} {a0 : Nat} {x1 : Int32} {a2 : Option Nat} {a3 : Option Nat} {x4 : Int32} {x5 : Int32} {a6 : Option Nat} {a7 : Option Nat} {a11 : Option Nat} {o1 : Nat} {d' b' : Nat} {P : Option WV → GH → Prop} {PX : String → Nat → GH → Prop}
    (e1 : a2 = some o1)
    (hkr : hp_kd G o1 = 8)
    (hC : wk_C w mJ28_equals d' b' [vR (some o1), vR a11] G P PX)
    (hdp : d' + 1 ≤ j.1)
    (hb : b' ≤ r)
    (kr : ∀ v G', P v G' → wk_V w mJ7_putVal j 94 [(0, vR (some a0)), (1, vI x1), (2, vR a2), (3, vR a3), (4, vI x4), (5, vI x5), (6, vR a6), (7, vR a7)] (v.toList ++ []) G' (r - b'))
    (kx : ∀ E q G', PX E q G' → wk_T w mJ7_putVal j 91 [(0, vR (some a0)), (1, vI x1), (2, vR a2), (3, vR a3), (4, vI x4), (5, vI x5), (6, vR a6), (7, vR a7), (11, vR a11)] G' (r - b') E q)
    : wk_V w mJ7_putVal j 88 [(0, vR (some a0)), (1, vI x1), (2, vR a2), (3, vR a3), (4, vI x4), (5, vI x5), (6, vR a6), (7, vR a7), (11, vR a11)] [] G r := by
  refine wk_aload_n 2 dJ7_putVal_88 rfl rfl ?_
  refine wk_aload dJ7_putVal_89 rfl ?_
  refine wk_eAt 1 e1 rfl ?_
  exact wk_callU (n := 1) (x := ⟨"java/lang/Object", "equals", "(Ljava/lang/Object;)Z"⟩) "java/lang/Object" hC rfl (Or.inl (by decide +kernel)) q1047 q1049 q1048 (by show Cond.selects (hp_C (hp_kd G o1)) _ _ ∈ lw_all; rw [hkr]; exact q1062) q3225 q1081 (by decide +kernel) (Nat.le_of_ble_eq_true rfl) ⟨by show hp_kd G o1 ≠ 0; rw [hkr]; decide, by show hp_kd G o1 < 28; rw [hkr]; decide⟩ rfl rfl (Nat.le_of_ble_eq_true rfl) hdp hb dJ7_putVal_91 (fun v G' h => (wk_sub [(0, vR (some a0)), (1, vI x1), (2, vR a2), (3, vR a3), (4, vI x4), (5, vI x5), (6, vR a6), (7, vR a7)] ⟨rfl, rfl, rfl, rfl, rfl, rfl, rfl, rfl, trivial⟩ (kr v G' h))) kx
theorem blJ7_putVal_88_k10 {w : WD} {j : JB} {r : Nat} {G : GH} {a0 : Nat} {x1 : Int32} {a2 : Option Nat} {a3 : Option Nat} {x4 : Int32} {x5 : Int32} {a6 : Option Nat} {a7 : Option Nat} {a11 : Option Nat} {o1 : Nat} {d' b' : Nat} {P : Option WV → GH → Prop} {PX : String → Nat → GH → Prop}
    (e1 : a2 = some o1)
    (hkr : hp_kd G o1 = 10)
    (hC : wk_C w mJ28_equals d' b' [vR (some o1), vR a11] G P PX)
    (hdp : d' + 1 ≤ j.1)
    (hb : b' ≤ r)
    (kr : ∀ v G', P v G' → wk_V w mJ7_putVal j 94 [(0, vR (some a0)), (1, vI x1), (2, vR a2), (3, vR a3), (4, vI x4), (5, vI x5), (6, vR a6), (7, vR a7)] (v.toList ++ []) G' (r - b'))
    (kx : ∀ E q G', PX E q G' → wk_T w mJ7_putVal j 91 [(0, vR (some a0)), (1, vI x1), (2, vR a2), (3, vR a3), (4, vI x4), (5, vI x5), (6, vR a6), (7, vR a7), (11, vR a11)] G' (r - b') E q)
    : wk_V w mJ7_putVal j 88 [(0, vR (some a0)), (1, vI x1), (2, vR a2), (3, vR a3), (4, vI x4), (5, vI x5), (6, vR a6), (7, vR a7), (11, vR a11)] [] G r := by
  refine wk_aload_n 2 dJ7_putVal_88 rfl rfl ?_
  refine wk_aload dJ7_putVal_89 rfl ?_
  refine wk_eAt 1 e1 rfl ?_
  exact wk_callU (n := 1) (x := ⟨"java/lang/Object", "equals", "(Ljava/lang/Object;)Z"⟩) "java/lang/Object" hC rfl (Or.inl (by decide +kernel)) q1047 q1049 q1048 (by show Cond.selects (hp_C (hp_kd G o1)) _ _ ∈ lw_all; rw [hkr]; exact q1063) q3225 q1081 (by decide +kernel) (Nat.le_of_ble_eq_true rfl) ⟨by show hp_kd G o1 ≠ 0; rw [hkr]; decide, by show hp_kd G o1 < 28; rw [hkr]; decide⟩ rfl rfl (Nat.le_of_ble_eq_true rfl) hdp hb dJ7_putVal_91 (fun v G' h => (wk_sub [(0, vR (some a0)), (1, vI x1), (2, vR a2), (3, vR a3), (4, vI x4), (5, vI x5), (6, vR a6), (7, vR a7)] ⟨rfl, rfl, rfl, rfl, rfl, rfl, rfl, rfl, trivial⟩ (kr v G' h))) kx
theorem blJ7_putVal_88_k15 {w : WD} {j : JB} {r : Nat} {G : GH} {a0 : Nat} {x1 : Int32} {a2 : Option Nat} {a3 : Option Nat} {x4 : Int32} {x5 : Int32} {a6 : Option Nat} {a7 : Option Nat} {a11 : Option Nat} {o1 : Nat} {d' b' : Nat} {P : Option WV → GH → Prop} {PX : String → Nat → GH → Prop}
    (e1 : a2 = some o1)
    (hkr : hp_kd G o1 = 15)
    (hC : wk_C w mJ28_equals d' b' [vR (some o1), vR a11] G P PX)
    (hdp : d' + 1 ≤ j.1)
    (hb : b' ≤ r)
    (kr : ∀ v G', P v G' → wk_V w mJ7_putVal j 94 [(0, vR (some a0)), (1, vI x1), (2, vR a2), (3, vR a3), (4, vI x4), (5, vI x5), (6, vR a6), (7, vR a7)] (v.toList ++ []) G' (r - b'))
    (kx : ∀ E q G', PX E q G' → wk_T w mJ7_putVal j 91 [(0, vR (some a0)), (1, vI x1), (2, vR a2), (3, vR a3), (4, vI x4), (5, vI x5), (6, vR a6), (7, vR a7), (11, vR a11)] G' (r - b') E q)
    : wk_V w mJ7_putVal j 88 [(0, vR (some a0)), (1, vI x1), (2, vR a2), (3, vR a3), (4, vI x4), (5, vI x5), (6, vR a6), (7, vR a7), (11, vR a11)] [] G r := by
  refine wk_aload_n 2 dJ7_putVal_88 rfl rfl ?_
  refine wk_aload dJ7_putVal_89 rfl ?_
  refine wk_eAt 1 e1 rfl ?_
  exact wk_callU (n := 1) (x := ⟨"java/lang/Object", "equals", "(Ljava/lang/Object;)Z"⟩) "java/lang/Object" hC rfl (Or.inl (by decide +kernel)) q1047 q1049 q1048 (by show Cond.selects (hp_C (hp_kd G o1)) _ _ ∈ lw_all; rw [hkr]; exact q1064) q3225 q1081 (by decide +kernel) (Nat.le_of_ble_eq_true rfl) ⟨by show hp_kd G o1 ≠ 0; rw [hkr]; decide, by show hp_kd G o1 < 28; rw [hkr]; decide⟩ rfl rfl (Nat.le_of_ble_eq_true rfl) hdp hb dJ7_putVal_91 (fun v G' h => (wk_sub [(0, vR (some a0)), (1, vI x1), (2, vR a2), (3, vR a3), (4, vI x4), (5, vI x5), (6, vR a6), (7, vR a7)] ⟨rfl, rfl, rfl, rfl, rfl, rfl, rfl, rfl, trivial⟩ (kr v G' h))) kx
theorem blJ7_putVal_88_k12 {w : WD} {j : JB} {r : Nat} {G : GH} {a0 : Nat} {x1 : Int32} {a2 : Option Nat} {a3 : Option Nat} {x4 : Int32} {x5 : Int32} {a6 : Option Nat} {a7 : Option Nat} {a11 : Option Nat} {o1 : Nat} {d' b' : Nat} {P : Option WV → GH → Prop} {PX : String → Nat → GH → Prop}
    (e1 : a2 = some o1)
    (hkr : hp_kd G o1 = 12)
    (hC : wk_C w mJ28_equals d' b' [vR (some o1), vR a11] G P PX)
    (hdp : d' + 1 ≤ j.1)
    (hb : b' ≤ r)
    (kr : ∀ v G', P v G' → wk_V w mJ7_putVal j 94 [(0, vR (some a0)), (1, vI x1), (2, vR a2), (3, vR a3), (4, vI x4), (5, vI x5), (6, vR a6), (7, vR a7)] (v.toList ++ []) G' (r - b'))
    (kx : ∀ E q G', PX E q G' → wk_T w mJ7_putVal j 91 [(0, vR (some a0)), (1, vI x1), (2, vR a2), (3, vR a3), (4, vI x4), (5, vI x5), (6, vR a6), (7, vR a7), (11, vR a11)] G' (r - b') E q)
    : wk_V w mJ7_putVal j 88 [(0, vR (some a0)), (1, vI x1), (2, vR a2), (3, vR a3), (4, vI x4), (5, vI x5), (6, vR a6), (7, vR a7), (11, vR a11)] [] G r := by
  refine wk_aload_n 2 dJ7_putVal_88 rfl rfl ?_
  refine wk_aload dJ7_putVal_89 rfl ?_
  refine wk_eAt 1 e1 rfl ?_
  exact wk_callU (n := 1) (x := ⟨"java/lang/Object", "equals", "(Ljava/lang/Object;)Z"⟩) "java/lang/Object" hC rfl (Or.inl (by decide +kernel)) q1047 q1049 q1048 (by show Cond.selects (hp_C (hp_kd G o1)) _ _ ∈ lw_all; rw [hkr]; exact q1065) q3225 q1081 (by decide +kernel) (Nat.le_of_ble_eq_true rfl) ⟨by show hp_kd G o1 ≠ 0; rw [hkr]; decide, by show hp_kd G o1 < 28; rw [hkr]; decide⟩ rfl rfl (Nat.le_of_ble_eq_true rfl) hdp hb dJ7_putVal_91 (fun v G' h => (wk_sub [(0, vR (some a0)), (1, vI x1), (2, vR a2), (3, vR a3), (4, vI x4), (5, vI x5), (6, vR a6), (7, vR a7)] ⟨rfl, rfl, rfl, rfl, rfl, rfl, rfl, rfl, trivial⟩ (kr v G' h))) kx
theorem blJ7_putVal_88_k6 {w : WD} {j : JB} {r : Nat} {G : GH} {a0 : Nat} {x1 : Int32} {a2 : Option Nat} {a3 : Option Nat} {x4 : Int32} {x5 : Int32} {a6 : Option Nat} {a7 : Option Nat} {a11 : Option Nat} {o1 : Nat} {d' b' : Nat} {P : Option WV → GH → Prop} {PX : String → Nat → GH → Prop}
    (e1 : a2 = some o1)
    (hkr : hp_kd G o1 = 6)
    (hC : wk_C w mJ28_equals d' b' [vR (some o1), vR a11] G P PX)
    (hdp : d' + 1 ≤ j.1)
    (hb : b' ≤ r)
    (kr : ∀ v G', P v G' → wk_V w mJ7_putVal j 94 [(0, vR (some a0)), (1, vI x1), (2, vR a2), (3, vR a3), (4, vI x4), (5, vI x5), (6, vR a6), (7, vR a7)] (v.toList ++ []) G' (r - b'))
    (kx : ∀ E q G', PX E q G' → wk_T w mJ7_putVal j 91 [(0, vR (some a0)), (1, vI x1), (2, vR a2), (3, vR a3), (4, vI x4), (5, vI x5), (6, vR a6), (7, vR a7), (11, vR a11)] G' (r - b') E q)
    : wk_V w mJ7_putVal j 88 [(0, vR (some a0)), (1, vI x1), (2, vR a2), (3, vR a3), (4, vI x4), (5, vI x5), (6, vR a6), (7, vR a7), (11, vR a11)] [] G r := by
  refine wk_aload_n 2 dJ7_putVal_88 rfl rfl ?_
  refine wk_aload dJ7_putVal_89 rfl ?_
  refine wk_eAt 1 e1 rfl ?_
  exact wk_callU (n := 1) (x := ⟨"java/lang/Object", "equals", "(Ljava/lang/Object;)Z"⟩) "java/lang/Object" hC rfl (Or.inl (by decide +kernel)) q1047 q1049 q1048 (by show Cond.selects (hp_C (hp_kd G o1)) _ _ ∈ lw_all; rw [hkr]; exact q1070) q3225 q1081 (by decide +kernel) (Nat.le_of_ble_eq_true rfl) ⟨by show hp_kd G o1 ≠ 0; rw [hkr]; decide, by show hp_kd G o1 < 28; rw [hkr]; decide⟩ rfl rfl (Nat.le_of_ble_eq_true rfl) hdp hb dJ7_putVal_91 (fun v G' h => (wk_sub [(0, vR (some a0)), (1, vI x1), (2, vR a2), (3, vR a3), (4, vI x4), (5, vI x5), (6, vR a6), (7, vR a7)] ⟨rfl, rfl, rfl, rfl, rfl, rfl, rfl, rfl, trivial⟩ (kr v G' h))) kx
theorem blJ7_putVal_88_k19 {w : WD} {j : JB} {r : Nat} {G : GH} {a0 : Nat} {x1 : Int32} {a2 : Option Nat} {a3 : Option Nat} {x4 : Int32} {x5 : Int32} {a6 : Option Nat} {a7 : Option Nat} {a11 : Option Nat} {o1 : Nat} {d' b' : Nat} {P : Option WV → GH → Prop} {PX : String → Nat → GH → Prop}
    (e1 : a2 = some o1)
    (hkr : hp_kd G o1 = 19)
    (hC : wk_C w mJ28_equals d' b' [vR (some o1), vR a11] G P PX)
    (hdp : d' + 1 ≤ j.1)
    (hb : b' ≤ r)
    (kr : ∀ v G', P v G' → wk_V w mJ7_putVal j 94 [(0, vR (some a0)), (1, vI x1), (2, vR a2), (3, vR a3), (4, vI x4), (5, vI x5), (6, vR a6), (7, vR a7)] (v.toList ++ []) G' (r - b'))
    (kx : ∀ E q G', PX E q G' → wk_T w mJ7_putVal j 91 [(0, vR (some a0)), (1, vI x1), (2, vR a2), (3, vR a3), (4, vI x4), (5, vI x5), (6, vR a6), (7, vR a7), (11, vR a11)] G' (r - b') E q)
    : wk_V w mJ7_putVal j 88 [(0, vR (some a0)), (1, vI x1), (2, vR a2), (3, vR a3), (4, vI x4), (5, vI x5), (6, vR a6), (7, vR a7), (11, vR a11)] [] G r := by
  refine wk_aload_n 2 dJ7_putVal_88 rfl rfl ?_
  refine wk_aload dJ7_putVal_89 rfl ?_
  refine wk_eAt 1 e1 rfl ?_
  exact wk_callU (n := 1) (x := ⟨"java/lang/Object", "equals", "(Ljava/lang/Object;)Z"⟩) "java/lang/Object" hC rfl (Or.inl (by decide +kernel)) q1047 q1049 q1048 (by show Cond.selects (hp_C (hp_kd G o1)) _ _ ∈ lw_all; rw [hkr]; exact q1071) q3225 q1081 (by decide +kernel) (Nat.le_of_ble_eq_true rfl) ⟨by show hp_kd G o1 ≠ 0; rw [hkr]; decide, by show hp_kd G o1 < 28; rw [hkr]; decide⟩ rfl rfl (Nat.le_of_ble_eq_true rfl) hdp hb dJ7_putVal_91 (fun v G' h => (wk_sub [(0, vR (some a0)), (1, vI x1), (2, vR a2), (3, vR a3), (4, vI x4), (5, vI x5), (6, vR a6), (7, vR a7)] ⟨rfl, rfl, rfl, rfl, rfl, rfl, rfl, rfl, trivial⟩ (kr v G' h))) kx
theorem blJ7_putVal_88_k3 {w : WD} {j : JB} {r : Nat} {G : GH} {a0 : Nat} {x1 : Int32} {a2 : Option Nat} {a3 : Option Nat} {x4 : Int32} {x5 : Int32} {a6 : Option Nat} {a7 : Option Nat} {a11 : Option Nat} {o1 : Nat} {d' b' : Nat} {P : Option WV → GH → Prop} {PX : String → Nat → GH → Prop}
    (e1 : a2 = some o1)
    (hkr : hp_kd G o1 = 3)
    (hC : wk_C w mJ28_equals d' b' [vR (some o1), vR a11] G P PX)
    (hdp : d' + 1 ≤ j.1)
    (hb : b' ≤ r)
    (kr : ∀ v G', P v G' → wk_V w mJ7_putVal j 94 [(0, vR (some a0)), (1, vI x1), (2, vR a2), (3, vR a3), (4, vI x4), (5, vI x5), (6, vR a6), (7, vR a7)] (v.toList ++ []) G' (r - b'))
    (kx : ∀ E q G', PX E q G' → wk_T w mJ7_putVal j 91 [(0, vR (some a0)), (1, vI x1), (2, vR a2), (3, vR a3), (4, vI x4), (5, vI x5), (6, vR a6), (7, vR a7), (11, vR a11)] G' (r - b') E q)
    : wk_V w mJ7_putVal j 88 [(0, vR (some a0)), (1, vI x1), (2, vR a2), (3, vR a3), (4, vI x4), (5, vI x5), (6, vR a6), (7, vR a7), (11, vR a11)] [] G r := by
  refine wk_aload_n 2 dJ7_putVal_88 rfl rfl ?_
  refine wk_aload dJ7_putVal_89 rfl ?_
  refine wk_eAt 1 e1 rfl ?_
  exact wk_callU (n := 1) (x := ⟨"java/lang/Object", "equals", "(Ljava/lang/Object;)Z"⟩) "java/lang/Object" hC rfl (Or.inl (by decide +kernel)) q1047 q1049 q1048 (by show Cond.selects (hp_C (hp_kd G o1)) _ _ ∈ lw_all; rw [hkr]; exact q1072) q3225 q1081 (by decide +kernel) (Nat.le_of_ble_eq_true rfl) ⟨by show hp_kd G o1 ≠ 0; rw [hkr]; decide, by show hp_kd G o1 < 28; rw [hkr]; decide⟩ rfl rfl (Nat.le_of_ble_eq_true rfl) hdp hb dJ7_putVal_91 (fun v G' h => (wk_sub [(0, vR (some a0)), (1, vI x1), (2, vR a2), (3, vR a3), (4, vI x4), (5, vI x5), (6, vR a6), (7, vR a7)] ⟨rfl, rfl, rfl, rfl, rfl, rfl, rfl, rfl, trivial⟩ (kr v G' h))) kx
theorem blJ7_putVal_88_k1 {w : WD} {j : JB} {r : Nat} {G : GH} {a0 : Nat} {x1 : Int32} {a2 : Option Nat} {a3 : Option Nat} {x4 : Int32} {x5 : Int32} {a6 : Option Nat} {a7 : Option Nat} {a11 : Option Nat} {o1 : Nat} {d' b' : Nat} {P : Option WV → GH → Prop} {PX : String → Nat → GH → Prop}
    (e1 : a2 = some o1)
    (hkr : hp_kd G o1 = 1)
    (hC : wk_C w mJ28_equals d' b' [vR (some o1), vR a11] G P PX)
    (hdp : d' + 1 ≤ j.1)
    (hb : b' ≤ r)
    (kr : ∀ v G', P v G' → wk_V w mJ7_putVal j 94 [(0, vR (some a0)), (1, vI x1), (2, vR a2), (3, vR a3), (4, vI x4), (5, vI x5), (6, vR a6), (7, vR a7)] (v.toList ++ []) G' (r - b'))
    (kx : ∀ E q G', PX E q G' → wk_T w mJ7_putVal j 91 [(0, vR (some a0)), (1, vI x1), (2, vR a2), (3, vR a3), (4, vI x4), (5, vI x5), (6, vR a6), (7, vR a7), (11, vR a11)] G' (r - b') E q)
    : wk_V w mJ7_putVal j 88 [(0, vR (some a0)), (1, vI x1), (2, vR a2), (3, vR a3), (4, vI x4), (5, vI x5), (6, vR a6), (7, vR a7), (11, vR a11)] [] G r := by
  refine wk_aload_n 2 dJ7_putVal_88 rfl rfl ?_
  refine wk_aload dJ7_putVal_89 rfl ?_
  refine wk_eAt 1 e1 rfl ?_
  exact wk_callU (n := 1) (x := ⟨"java/lang/Object", "equals", "(Ljava/lang/Object;)Z"⟩) "java/lang/Object" hC rfl (Or.inl (by decide +kernel)) q1047 q1049 q1048 (by show Cond.selects (hp_C (hp_kd G o1)) _ _ ∈ lw_all; rw [hkr]; exact q1073) q3225 q1081 (by decide +kernel) (Nat.le_of_ble_eq_true rfl) ⟨by show hp_kd G o1 ≠ 0; rw [hkr]; decide, by show hp_kd G o1 < 28; rw [hkr]; decide⟩ rfl rfl (Nat.le_of_ble_eq_true rfl) hdp hb dJ7_putVal_91 (fun v G' h => (wk_sub [(0, vR (some a0)), (1, vI x1), (2, vR a2), (3, vR a3), (4, vI x4), (5, vI x5), (6, vR a6), (7, vR a7)] ⟨rfl, rfl, rfl, rfl, rfl, rfl, rfl, rfl, trivial⟩ (kr v G' h))) kx
theorem blJ7_putVal_88_k4 {w : WD} {j : JB} {r : Nat} {G : GH} {a0 : Nat} {x1 : Int32} {a2 : Option Nat} {a3 : Option Nat} {x4 : Int32} {x5 : Int32} {a6 : Option Nat} {a7 : Option Nat} {a11 : Option Nat} {o1 : Nat} {d' b' : Nat} {P : Option WV → GH → Prop} {PX : String → Nat → GH → Prop}
    (e1 : a2 = some o1)
    (hkr : hp_kd G o1 = 4)
    (hC : wk_C w mJ28_equals d' b' [vR (some o1), vR a11] G P PX)
    (hdp : d' + 1 ≤ j.1)
    (hb : b' ≤ r)
    (kr : ∀ v G', P v G' → wk_V w mJ7_putVal j 94 [(0, vR (some a0)), (1, vI x1), (2, vR a2), (3, vR a3), (4, vI x4), (5, vI x5), (6, vR a6), (7, vR a7)] (v.toList ++ []) G' (r - b'))
    (kx : ∀ E q G', PX E q G' → wk_T w mJ7_putVal j 91 [(0, vR (some a0)), (1, vI x1), (2, vR a2), (3, vR a3), (4, vI x4), (5, vI x5), (6, vR a6), (7, vR a7), (11, vR a11)] G' (r - b') E q)
    : wk_V w mJ7_putVal j 88 [(0, vR (some a0)), (1, vI x1), (2, vR a2), (3, vR a3), (4, vI x4), (5, vI x5), (6, vR a6), (7, vR a7), (11, vR a11)] [] G r := by
  refine wk_aload_n 2 dJ7_putVal_88 rfl rfl ?_
  refine wk_aload dJ7_putVal_89 rfl ?_
  refine wk_eAt 1 e1 rfl ?_
  exact wk_callU (n := 1) (x := ⟨"java/lang/Object", "equals", "(Ljava/lang/Object;)Z"⟩) "java/lang/Object" hC rfl (Or.inl (by decide +kernel)) q1047 q1049 q1048 (by show Cond.selects (hp_C (hp_kd G o1)) _ _ ∈ lw_all; rw [hkr]; exact q1074) q3225 q1081 (by decide +kernel) (Nat.le_of_ble_eq_true rfl) ⟨by show hp_kd G o1 ≠ 0; rw [hkr]; decide, by show hp_kd G o1 < 28; rw [hkr]; decide⟩ rfl rfl (Nat.le_of_ble_eq_true rfl) hdp hb dJ7_putVal_91 (fun v G' h => (wk_sub [(0, vR (some a0)), (1, vI x1), (2, vR a2), (3, vR a3), (4, vI x4), (5, vI x5), (6, vR a6), (7, vR a7)] ⟨rfl, rfl, rfl, rfl, rfl, rfl, rfl, rfl, trivial⟩ (kr v G' h))) kx
theorem blJ7_putVal_88_k26 {w : WD} {j : JB} {r : Nat} {G : GH} {a0 : Nat} {x1 : Int32} {a2 : Option Nat} {a3 : Option Nat} {x4 : Int32} {x5 : Int32} {a6 : Option Nat} {a7 : Option Nat} {a11 : Option Nat} {o1 : Nat} {d' b' : Nat} {P : Option WV → GH → Prop} {PX : String → Nat → GH → Prop}
    (e1 : a2 = some o1)
    (hkr : hp_kd G o1 = 26)
    (hC : wk_C w mJ13_equals d' b' [vR (some o1), vR a11] G P PX)
    (hdp : d' + 1 ≤ j.1)
    (hb : b' ≤ r)
    (kr : ∀ v G', P v G' → wk_V w mJ7_putVal j 94 [(0, vR (some a0)), (1, vI x1), (2, vR a2), (3, vR a3), (4, vI x4), (5, vI x5), (6, vR a6), (7, vR a7)] (v.toList ++ []) G' (r - b'))
    (kx : ∀ E q G', PX E q G' → wk_T w mJ7_putVal j 91 [(0, vR (some a0)), (1, vI x1), (2, vR a2), (3, vR a3), (4, vI x4), (5, vI x5), (6, vR a6), (7, vR a7), (11, vR a11)] G' (r - b') E q)
    : wk_V w mJ7_putVal j 88 [(0, vR (some a0)), (1, vI x1), (2, vR a2), (3, vR a3), (4, vI x4), (5, vI x5), (6, vR a6), (7, vR a7), (11, vR a11)] [] G r := by
  refine wk_aload_n 2 dJ7_putVal_88 rfl rfl ?_
  refine wk_aload dJ7_putVal_89 rfl ?_
  refine wk_eAt 1 e1 rfl ?_
  exact wk_callU (n := 1) (x := ⟨"java/lang/Object", "equals", "(Ljava/lang/Object;)Z"⟩) "java/lang/Object" hC rfl (Or.inl (by decide +kernel)) q1047 q1049 q896 (by show Cond.selects (hp_C (hp_kd G o1)) _ _ ∈ lw_all; rw [hkr]; exact q1077) q129 q898 (by decide +kernel) (Nat.le_of_ble_eq_true rfl) ⟨by show hp_kd G o1 ≠ 0; rw [hkr]; decide, by show hp_kd G o1 < 28; rw [hkr]; decide⟩ rfl rfl (Nat.le_of_ble_eq_true rfl) hdp hb dJ7_putVal_91 (fun v G' h => (wk_sub [(0, vR (some a0)), (1, vI x1), (2, vR a2), (3, vR a3), (4, vI x4), (5, vI x5), (6, vR a6), (7, vR a7)] ⟨rfl, rfl, rfl, rfl, rfl, rfl, rfl, rfl, trivial⟩ (kr v G' h))) kx
theorem blJ7_putVal_88_k27 {w : WD} {j : JB} {r : Nat} {G : GH} {a0 : Nat} {x1 : Int32} {a2 : Option Nat} {a3 : Option Nat} {x4 : Int32} {x5 : Int32} {a6 : Option Nat} {a7 : Option Nat} {a11 : Option Nat} {o1 : Nat} {d' b' : Nat} {P : Option WV → GH → Prop} {PX : String → Nat → GH → Prop}
    (e1 : a2 = some o1)
    (hkr : hp_kd G o1 = 27)
    (hC : wk_C w mJ28_equals d' b' [vR (some o1), vR a11] G P PX)
    (hdp : d' + 1 ≤ j.1)
    (hb : b' ≤ r)
    (kr : ∀ v G', P v G' → wk_V w mJ7_putVal j 94 [(0, vR (some a0)), (1, vI x1), (2, vR a2), (3, vR a3), (4, vI x4), (5, vI x5), (6, vR a6), (7, vR a7)] (v.toList ++ []) G' (r - b'))
    (kx : ∀ E q G', PX E q G' → wk_T w mJ7_putVal j 91 [(0, vR (some a0)), (1, vI x1), (2, vR a2), (3, vR a3), (4, vI x4), (5, vI x5), (6, vR a6), (7, vR a7), (11, vR a11)] G' (r - b') E q)
    : wk_V w mJ7_putVal j 88 [(0, vR (some a0)), (1, vI x1), (2, vR a2), (3, vR a3), (4, vI x4), (5, vI x5), (6, vR a6), (7, vR a7), (11, vR a11)] [] G r := by
  refine wk_aload_n 2 dJ7_putVal_88 rfl rfl ?_
  refine wk_aload dJ7_putVal_89 rfl ?_
  refine wk_eAt 1 e1 rfl ?_
  exact wk_callU (n := 1) (x := ⟨"java/lang/Object", "equals", "(Ljava/lang/Object;)Z"⟩) "java/lang/Object" hC rfl (Or.inl (by decide +kernel)) q1047 q1049 q1048 (by show Cond.selects (hp_C (hp_kd G o1)) _ _ ∈ lw_all; rw [hkr]; exact q1078) q3225 q1081 (by decide +kernel) (Nat.le_of_ble_eq_true rfl) ⟨by show hp_kd G o1 ≠ 0; rw [hkr]; decide, by show hp_kd G o1 < 28; rw [hkr]; decide⟩ rfl rfl (Nat.le_of_ble_eq_true rfl) hdp hb dJ7_putVal_91 (fun v G' h => (wk_sub [(0, vR (some a0)), (1, vI x1), (2, vR a2), (3, vR a3), (4, vI x4), (5, vI x5), (6, vR a6), (7, vR a7)] ⟨rfl, rfl, rfl, rfl, rfl, rfl, rfl, rfl, trivial⟩ (kr v G' h))) kx
theorem blJ7_putVal_94 {w : WD} {j : JB} {r : Nat} {G : GH} {a0 : Nat} {x1 : Int32} {a2 : Option Nat} {a3 : Option Nat} {x4 : Int32} {x5 : Int32} {a6 : Option Nat} {a7 : Option Nat} {s0 : Int32}
    (kt : s0 = 0 → wk_V w mJ7_putVal j 104 [(0, vR (some a0)), (1, vI x1), (2, vR a2), (3, vR a3), (4, vI x4), (5, vI x5), (6, vR a6), (7, vR a7)] [] G r)
    (kf : ¬ (s0 = 0) → wk_V w mJ7_putVal j 97 [(0, vR (some a0)), (3, vR a3), (4, vI x4), (5, vI x5), (7, vR a7)] [] G r)
    : wk_V w mJ7_putVal j 94 [(0, vR (some a0)), (1, vI x1), (2, vR a2), (3, vR a3), (4, vI x4), (5, vI x5), (6, vR a6), (7, vR a7)] [vI s0] G r := by
  exact wk_if_eq 104 dJ7_putVal_94 (by decide) (fun h => (kt h)) (fun h => (wk_sub [(0, vR (some a0)), (3, vR a3), (4, vI x4), (5, vI x5), (7, vR a7)] ⟨rfl, rfl, rfl, rfl, rfl, trivial⟩ (kf h)))
theorem blJ7_putVal_97 {w : WD} {j : JB} {r : Nat} {G : GH} {a0 : Nat} {a3 : Option Nat} {x4 : Int32} {x5 : Int32} {a7 : Option Nat}
    (k : wk_V w mJ7_putVal j 222 [(0, vR (some a0)), (3, vR a3), (4, vI x4), (5, vI x5), (10, vR a7)] [] G r)
    : wk_V w mJ7_putVal j 97 [(0, vR (some a0)), (3, vR a3), (4, vI x4), (5, vI x5), (7, vR a7)] [] G r := by
  refine wk_aload dJ7_putVal_97 rfl ?_
  refine wk_astore dJ7_putVal_99 (Nat.le_of_ble_eq_true rfl) ?_
  exact wk_goto 222 dJ7_putVal_101 (by decide) (wk_sub [(0, vR (some a0)), (3, vR a3), (4, vI x4), (5, vI x5), (10, vR a7)] ⟨rfl, rfl, rfl, rfl, rfl, trivial⟩ k)
theorem blJ7_putVal_104 {w : WD} {j : JB} {r : Nat} {G : GH} {a0 : Nat} {x1 : Int32} {a2 : Option Nat} {a3 : Option Nat} {x4 : Int32} {x5 : Int32} {a6 : Option Nat} {a7 : Option Nat} {v1 : Int32}
    (hc2 : hp_inst G a7 "java/util/HashMap$TreeNode" v1)
    (kt : v1 = 0 → wk_V w mJ7_putVal j 131 [(0, vR (some a0)), (1, vI x1), (2, vR a2), (3, vR a3), (4, vI x4), (5, vI x5), (6, vR a6), (7, vR a7)] [] G r)
    (kf : ¬ (v1 = 0) → wk_V w mJ7_putVal j 112 [(0, vR (some a0)), (1, vI x1), (2, vR a2), (3, vR a3), (4, vI x4), (5, vI x5), (6, vR a6), (7, vR a7)] [] G r)
    : wk_V w mJ7_putVal j 104 [(0, vR (some a0)), (1, vI x1), (2, vR a2), (3, vR a3), (4, vI x4), (5, vI x5), (6, vR a6), (7, vR a7)] [] G r := by
  refine wk_aload dJ7_putVal_104 rfl ?_
  refine wk_instQ q1082 hc2 dJ7_putVal_106 ?_
  exact wk_if_eq 131 dJ7_putVal_109 (by decide) (fun h => (kt h)) (fun h => (kf h))
theorem blJ7_putVal_112 {w : WD} {j : JB} {r : Nat} {G : GH} {a0 : Nat} {x1 : Int32} {a2 : Option Nat} {a3 : Option Nat} {x4 : Int32} {x5 : Int32} {a6 : Option Nat} {a7 : Option Nat} {o2 : Nat} {d' b' : Nat} {P : Option WV → GH → Prop} {PX : String → Nat → GH → Prop}
    (hc1 : ∀ a, a7 = some a → hp_kd G a ≠ 0 ∧ hp_kd G a < 28 ∧ hp_sub (hp_kd G a) "java/util/HashMap$TreeNode")
    (e2 : a7 = some o2)
    (hkr : hp_kd G o2 = 25)
    (hC : wk_C w mJ26_putTreeVal d' b' [vR (some o2), vR (some a0), vR a6, vI x1, vR a2, vR a3] G P PX)
    (hdp : d' + 1 ≤ j.1)
    (hb : b' ≤ r)
    (kr : ∀ v G', P v G' → wk_V w mJ7_putVal j 126 [(0, vR (some a0)), (3, vR a3), (4, vI x4), (5, vI x5)] (v.toList ++ []) G' (r - b'))
    (kx : ∀ E q G', PX E q G' → wk_T w mJ7_putVal j 123 [(0, vR (some a0)), (1, vI x1), (2, vR a2), (3, vR a3), (4, vI x4), (5, vI x5), (6, vR a6), (7, vR a7)] G' (r - b') E q)
    : wk_V w mJ7_putVal j 112 [(0, vR (some a0)), (1, vI x1), (2, vR a2), (3, vR a3), (4, vI x4), (5, vI x5), (6, vR a6), (7, vR a7)] [] G r := by
  refine wk_aload dJ7_putVal_112 rfl ?_
  refine wk_castQ q1082 hc1 dJ7_putVal_114 ?_
  refine wk_aload_n 0 dJ7_putVal_117 rfl rfl ?_
  refine wk_aload dJ7_putVal_118 rfl ?_
  refine wk_iload_n 1 dJ7_putVal_120 rfl rfl ?_
  refine wk_aload_n 2 dJ7_putVal_121 rfl rfl ?_
  refine wk_aload_n 3 dJ7_putVal_122 rfl rfl ?_
  refine wk_eAt 5 e2 rfl ?_
  exact wk_callV hC rfl q1643 q1644 q1645 q149 q1646 mdJ26_putTreeVal (Nat.le_of_ble_eq_true rfl) ⟨by show hp_kd G o2 ≠ 0; rw [hkr]; decide, by show hp_kd G o2 < 28; rw [hkr]; decide, by show hp_C (hp_kd G o2) = _; rw [hkr]; rfl⟩ rfl rfl (Nat.le_of_ble_eq_true rfl) hdp hb dJ7_putVal_123 (fun v G' h => (wk_sub [(0, vR (some a0)), (3, vR a3), (4, vI x4), (5, vI x5)] ⟨rfl, rfl, rfl, rfl, trivial⟩ (kr v G' h))) kx
theorem blJ7_putVal_126 {w : WD} {j : JB} {r : Nat} {G : GH} {a0 : Nat} {a3 : Option Nat} {x4 : Int32} {x5 : Int32} {sa0 : Option Nat}
    (k : wk_V w mJ7_putVal j 222 [(0, vR (some a0)), (3, vR a3), (4, vI x4), (5, vI x5), (10, vR sa0)] [] G r)
    : wk_V w mJ7_putVal j 126 [(0, vR (some a0)), (3, vR a3), (4, vI x4), (5, vI x5)] [vR sa0] G r := by
  refine wk_astore dJ7_putVal_126 (Nat.le_of_ble_eq_true rfl) ?_
  exact wk_goto 222 dJ7_putVal_128 (by decide) k
theorem blJ7_putVal_131 {w : WD} {j : JB} {r : Nat} {G : GH} {a0 : Nat} {x1 : Int32} {a2 : Option Nat} {a3 : Option Nat} {x4 : Int32} {x5 : Int32} {a6 : Option Nat} {a7 : Option Nat}
    (k : wk_V w mJ7_putVal j 134 [(0, vR (some a0)), (1, vI x1), (2, vR a2), (3, vR a3), (4, vI x4), (5, vI x5), (6, vR a6), (7, vR a7), (12, vI (0 : Int32))] [] G r)
    : wk_V w mJ7_putVal j 131 [(0, vR (some a0)), (1, vI x1), (2, vR a2), (3, vR a3), (4, vI x4), (5, vI x5), (6, vR a6), (7, vR a7)] [] G r := by
  refine wk_iconst (0 : Int32) dJ7_putVal_131 (by decide) ?_
  refine wk_istore dJ7_putVal_132 (Nat.le_of_ble_eq_true rfl) ?_
  exact k
theorem blJ7_putVal_134 {w : WD} {j : JB} {r : Nat} {G : GH} {a0 : Nat} {x1 : Int32} {a2 : Option Nat} {a3 : Option Nat} {x4 : Int32} {x5 : Int32} {a6 : Option Nat} {a7 : Option Nat} {x12 : Int32} {o1 : Nat}
    (e1 : a7 = some o1)
    (hk2 : 24 ≤ hp_kd G o1 ∧ hp_kd G o1 ≤ 25)
    (kt : ∀ o9, (hp_r G o1 3) = some o9 → wk_V w mJ7_putVal j 175 [(0, vR (some a0)), (1, vI x1), (2, vR a2), (3, vR a3), (4, vI x4), (5, vI x5), (6, vR a6), (10, vR (hp_r G o1 3)), (12, vI x12)] [] G r)
    (kf : (hp_r G o1 3) = none → wk_V w mJ7_putVal j 145 [(0, vR (some a0)), (1, vI x1), (2, vR a2), (3, vR a3), (4, vI x4), (5, vI x5), (6, vR a6), (7, vR a7), (10, vR (hp_r G o1 3)), (12, vI x12)] [] G r)
    : wk_V w mJ7_putVal j 134 [(0, vR (some a0)), (1, vI x1), (2, vR a2), (3, vR a3), (4, vI x4), (5, vI x5), (6, vR a6), (7, vR a7), (12, vI x12)] [] G r := by
  refine wk_aload dJ7_putVal_134 rfl ?_
  refine wk_e e1 ?_
  refine wk_getR (hp_kd G o1) 3 (flJ7_177 _ hk2.1 hk2.2) (flJ7_177_t _ hk2.1 hk2.2).1 rfl dJ7_putVal_136 ?_
  refine wk_dup dJ7_putVal_139 rfl ?_
  refine wk_astore dJ7_putVal_140 (Nat.le_of_ble_eq_true rfl) ?_
  exact wk_ifnonnull 175 dJ7_putVal_142 (by decide) (fun o9 h => (wk_sub [(0, vR (some a0)), (1, vI x1), (2, vR a2), (3, vR a3), (4, vI x4), (5, vI x5), (6, vR a6), (10, vR (hp_r G o1 3)), (12, vI x12)] ⟨rfl, rfl, rfl, rfl, rfl, rfl, rfl, rfl, rfl, trivial⟩ (kt o9 h))) (fun h => (kf h))
theorem blJ7_putVal_145 {w : WD} {j : JB} {r : Nat} {G : GH} {a0 : Nat} {x1 : Int32} {a2 : Option Nat} {a3 : Option Nat} {x4 : Int32} {x5 : Int32} {a6 : Option Nat} {a7 : Option Nat} {a10 : Option Nat} {x12 : Int32} {d' b' : Nat} {P : Option WV → GH → Prop} {PX : String → Nat → GH → Prop}
    (hkr : hp_kd G a0 = 23)
    (hC : wk_C w mJ7_newNode d' b' [vR (some a0), vI x1, vR a2, vR a3, vR none] G P PX)
    (hdp : d' + 1 ≤ j.1)
    (hb : b' ≤ r)
    (kr : ∀ v G', P v G' → wk_V w mJ7_putVal j 155 [(0, vR (some a0)), (1, vI x1), (3, vR a3), (4, vI x4), (5, vI x5), (6, vR a6), (10, vR a10), (12, vI x12)] (v.toList ++ [vR a7]) G' (r - b'))
    (kx : ∀ E q G', PX E q G' → wk_T w mJ7_putVal j 152 [(0, vR (some a0)), (1, vI x1), (2, vR a2), (3, vR a3), (4, vI x4), (5, vI x5), (6, vR a6), (7, vR a7), (10, vR a10), (12, vI x12)] G' (r - b') E q)
    : wk_V w mJ7_putVal j 145 [(0, vR (some a0)), (1, vI x1), (2, vR a2), (3, vR a3), (4, vI x4), (5, vI x5), (6, vR a6), (7, vR a7), (10, vR a10), (12, vI x12)] [] G r := by
  refine wk_aload dJ7_putVal_145 rfl ?_
  refine wk_aload_n 0 dJ7_putVal_147 rfl rfl ?_
  refine wk_iload_n 1 dJ7_putVal_148 rfl rfl ?_
  refine wk_aload_n 2 dJ7_putVal_149 rfl rfl ?_
  refine wk_aload_n 3 dJ7_putVal_150 rfl rfl ?_
  refine wk_null dJ7_putVal_151 ?_
  exact wk_callV hC rfl q1639 q1640 q1641 q119 q1642 mdJ7_newNode (Nat.le_of_ble_eq_true rfl) ⟨by show hp_kd G a0 ≠ 0; rw [hkr]; decide, by show hp_kd G a0 < 28; rw [hkr]; decide, by show hp_C (hp_kd G a0) = _; rw [hkr]; rfl⟩ rfl rfl (Nat.le_of_ble_eq_true rfl) hdp hb dJ7_putVal_152 (fun v G' h => (wk_sub [(0, vR (some a0)), (1, vI x1), (3, vR a3), (4, vI x4), (5, vI x5), (6, vR a6), (10, vR a10), (12, vI x12)] ⟨rfl, rfl, rfl, rfl, rfl, rfl, rfl, rfl, trivial⟩ (kr v G' h))) kx
theorem blJ7_putVal_155 {w : WD} {j : JB} {r : Nat} {G : GH} {a0 : Nat} {x1 : Int32} {a3 : Option Nat} {x4 : Int32} {x5 : Int32} {a6 : Option Nat} {a10 : Option Nat} {x12 : Int32} {sa0 : Option Nat} {sa1 : Option Nat} {o1 : Nat}
    (e1 : sa0 = some o1)
    (hk2 : 24 ≤ hp_kd G o1 ∧ hp_kd G o1 ≤ 25)
    (hA3 : hp_A w o1)
    (kt : x12 < (7 : Int32) → wk_V w mJ7_putVal j 222 [(0, vR (some a0)), (3, vR a3), (4, vI x4), (5, vI x5), (10, vR a10)] [] (hp_sR G o1 3 sa1) r)
    (kf : ¬ (x12 < (7 : Int32)) → wk_V w mJ7_putVal j 165 [(0, vR (some a0)), (1, vI x1), (3, vR a3), (4, vI x4), (5, vI x5), (6, vR a6), (10, vR a10)] [] (hp_sR G o1 3 sa1) r)
    : wk_V w mJ7_putVal j 155 [(0, vR (some a0)), (1, vI x1), (3, vR a3), (4, vI x4), (5, vI x5), (6, vR a6), (10, vR a10), (12, vI x12)] [vR sa1, vR sa0] G r := by
  refine wk_e2 e1 ?_
  refine wk_putR (hp_kd G o1) 3 (flJ7_177 _ hk2.1 hk2.2) (flJ7_177_t _ hk2.1 hk2.2).1 (Or.inl (flJ7_177_t _ hk2.1 hk2.2).2.1) rfl hA3 dJ7_putVal_155 ?_
  refine wk_iload dJ7_putVal_158 rfl ?_
  refine wk_bipush (7 : Int32) dJ7_putVal_160 (by decide) ?_
  exact wk_icmp_lt 222 dJ7_putVal_162 (by decide) (fun h => (wk_sub [(0, vR (some a0)), (3, vR a3), (4, vI x4), (5, vI x5), (10, vR a10)] ⟨rfl, rfl, rfl, rfl, rfl, trivial⟩ (kt h))) (fun h => (wk_sub [(0, vR (some a0)), (1, vI x1), (3, vR a3), (4, vI x4), (5, vI x5), (6, vR a6), (10, vR a10)] ⟨rfl, rfl, rfl, rfl, rfl, rfl, rfl, trivial⟩ (kf h)))
theorem blJ7_putVal_165 {w : WD} {j : JB} {r : Nat} {G : GH} {a0 : Nat} {x1 : Int32} {a3 : Option Nat} {x4 : Int32} {x5 : Int32} {a6 : Option Nat} {a10 : Option Nat} {d' b' : Nat} {P : Option WV → GH → Prop} {PX : String → Nat → GH → Prop}
    (hkr : hp_kd G a0 = 23)
    (hC : wk_C w mJ7_treeifyBin d' b' [vR (some a0), vR a6, vI x1] G P PX)
    (hdp : d' + 1 ≤ j.1)
    (hb : b' ≤ r)
    (kr : ∀ v G', P v G' → wk_V w mJ7_putVal j 172 [(0, vR (some a0)), (3, vR a3), (4, vI x4), (5, vI x5), (10, vR a10)] (v.toList ++ []) G' (r - b'))
    (kx : ∀ E q G', PX E q G' → wk_T w mJ7_putVal j 169 [(0, vR (some a0)), (1, vI x1), (3, vR a3), (4, vI x4), (5, vI x5), (6, vR a6), (10, vR a10)] G' (r - b') E q)
    : wk_V w mJ7_putVal j 165 [(0, vR (some a0)), (1, vI x1), (3, vR a3), (4, vI x4), (5, vI x5), (6, vR a6), (10, vR a10)] [] G r := by
  refine wk_aload_n 0 dJ7_putVal_165 rfl rfl ?_
  refine wk_aload dJ7_putVal_166 rfl ?_
  refine wk_iload_n 1 dJ7_putVal_168 rfl rfl ?_
  exact wk_callV hC rfl q1684 q1685 q1686 q119 q1687 mdJ7_treeifyBin (Nat.le_of_ble_eq_true rfl) ⟨by show hp_kd G a0 ≠ 0; rw [hkr]; decide, by show hp_kd G a0 < 28; rw [hkr]; decide, by show hp_C (hp_kd G a0) = _; rw [hkr]; rfl⟩ rfl rfl (Nat.le_of_ble_eq_true rfl) hdp hb dJ7_putVal_169 (fun v G' h => (wk_sub [(0, vR (some a0)), (3, vR a3), (4, vI x4), (5, vI x5), (10, vR a10)] ⟨rfl, rfl, rfl, rfl, rfl, trivial⟩ (kr v G' h))) kx
theorem blJ7_putVal_172 {w : WD} {j : JB} {r : Nat} {G : GH} {a0 : Nat} {a3 : Option Nat} {x4 : Int32} {x5 : Int32} {a10 : Option Nat}
    (k : wk_V w mJ7_putVal j 222 [(0, vR (some a0)), (3, vR a3), (4, vI x4), (5, vI x5), (10, vR a10)] [] G r)
    : wk_V w mJ7_putVal j 172 [(0, vR (some a0)), (3, vR a3), (4, vI x4), (5, vI x5), (10, vR a10)] [] G r := by
  exact wk_goto 222 dJ7_putVal_172 (by decide) k
theorem blJ7_putVal_175 {w : WD} {j : JB} {r : Nat} {G : GH} {a0 : Nat} {x1 : Int32} {a2 : Option Nat} {a3 : Option Nat} {x4 : Int32} {x5 : Int32} {a6 : Option Nat} {a10 : Option Nat} {x12 : Int32} {o1 : Nat}
    (e1 : a10 = some o1)
    (hk2 : 24 ≤ hp_kd G o1 ∧ hp_kd G o1 ≤ 25)
    (kt : ¬ ((hp_i G o1 0) = x1) → wk_V w mJ7_putVal j 212 [(0, vR (some a0)), (1, vI x1), (2, vR a2), (3, vR a3), (4, vI x4), (5, vI x5), (6, vR a6), (10, vR a10), (12, vI x12)] [] G r)
    (kf : (hp_i G o1 0) = x1 → wk_V w mJ7_putVal j 184 [(0, vR (some a0)), (1, vI x1), (2, vR a2), (3, vR a3), (4, vI x4), (5, vI x5), (6, vR a6), (10, vR a10), (12, vI x12)] [] G r)
    : wk_V w mJ7_putVal j 175 [(0, vR (some a0)), (1, vI x1), (2, vR a2), (3, vR a3), (4, vI x4), (5, vI x5), (6, vR a6), (10, vR a10), (12, vI x12)] [] G r := by
  refine wk_aload dJ7_putVal_175 rfl ?_
  refine wk_e e1 ?_
  refine wk_getI (hp_kd G o1) 0 (flJ7_168 _ hk2.1 hk2.2) (flJ7_168_t _ hk2.1 hk2.2).1 rfl dJ7_putVal_177 ?_
  refine wk_iload_n 1 dJ7_putVal_180 rfl rfl ?_
  exact wk_icmp_ne 212 dJ7_putVal_181 (by decide) (fun h => (kt h)) (fun h => (kf h))
theorem blJ7_putVal_184 {w : WD} {j : JB} {r : Nat} {G : GH} {a0 : Nat} {x1 : Int32} {a2 : Option Nat} {a3 : Option Nat} {x4 : Int32} {x5 : Int32} {a6 : Option Nat} {a10 : Option Nat} {x12 : Int32} {o1 : Nat}
    (e1 : a10 = some o1)
    (hk2 : 24 ≤ hp_kd G o1 ∧ hp_kd G o1 ≤ 25)
    (kt : (hp_r G o1 1) = a2 → wk_V w mJ7_putVal j 222 [(0, vR (some a0)), (3, vR a3), (4, vI x4), (5, vI x5), (10, vR a10)] [] G r)
    (kf : ¬ ((hp_r G o1 1) = a2) → wk_V w mJ7_putVal j 196 [(0, vR (some a0)), (1, vI x1), (2, vR a2), (3, vR a3), (4, vI x4), (5, vI x5), (6, vR a6), (10, vR a10), (11, vR (hp_r G o1 1)), (12, vI x12)] [] G r)
    : wk_V w mJ7_putVal j 184 [(0, vR (some a0)), (1, vI x1), (2, vR a2), (3, vR a3), (4, vI x4), (5, vI x5), (6, vR a6), (10, vR a10), (12, vI x12)] [] G r := by
  refine wk_aload dJ7_putVal_184 rfl ?_
  refine wk_e e1 ?_
  refine wk_getR (hp_kd G o1) 1 (flJ7_170 _ hk2.1 hk2.2) (flJ7_170_t _ hk2.1 hk2.2).1 rfl dJ7_putVal_186 ?_
  refine wk_dup dJ7_putVal_189 rfl ?_
  refine wk_astore dJ7_putVal_190 (Nat.le_of_ble_eq_true rfl) ?_
  refine wk_aload_n 2 dJ7_putVal_192 rfl rfl ?_
  exact wk_acmp_eq 222 dJ7_putVal_193 (by decide) (fun h => (wk_sub [(0, vR (some a0)), (3, vR a3), (4, vI x4), (5, vI x5), (10, vR a10)] ⟨rfl, rfl, rfl, rfl, rfl, trivial⟩ (kt h))) (fun h => (kf h))
theorem blJ7_putVal_196 {w : WD} {j : JB} {r : Nat} {G : GH} {a0 : Nat} {x1 : Int32} {a2 : Option Nat} {a3 : Option Nat} {x4 : Int32} {x5 : Int32} {a6 : Option Nat} {a10 : Option Nat} {a11 : Option Nat} {x12 : Int32}
    (kt : a2 = none → wk_V w mJ7_putVal j 212 [(0, vR (some a0)), (1, vI x1), (2, vR a2), (3, vR a3), (4, vI x4), (5, vI x5), (6, vR a6), (10, vR a10), (12, vI x12)] [] G r)
    (kf : ∀ o9, a2 = some o9 → wk_V w mJ7_putVal j 200 [(0, vR (some a0)), (1, vI x1), (2, vR a2), (3, vR a3), (4, vI x4), (5, vI x5), (6, vR a6), (10, vR a10), (11, vR a11), (12, vI x12)] [] G r)
    : wk_V w mJ7_putVal j 196 [(0, vR (some a0)), (1, vI x1), (2, vR a2), (3, vR a3), (4, vI x4), (5, vI x5), (6, vR a6), (10, vR a10), (11, vR a11), (12, vI x12)] [] G r := by
  refine wk_aload_n 2 dJ7_putVal_196 rfl rfl ?_
  exact wk_ifnull 212 dJ7_putVal_197 (by decide) (fun h => (wk_sub [(0, vR (some a0)), (1, vI x1), (2, vR a2), (3, vR a3), (4, vI x4), (5, vI x5), (6, vR a6), (10, vR a10), (12, vI x12)] ⟨rfl, rfl, rfl, rfl, rfl, rfl, rfl, rfl, rfl, trivial⟩ (kt h))) (fun o9 h => (kf o9 h))
theorem blJ7_putVal_200_k2 {w : WD} {j : JB} {r : Nat} {G : GH} {a0 : Nat} {x1 : Int32} {a2 : Option Nat} {a3 : Option Nat} {x4 : Int32} {x5 : Int32} {a6 : Option Nat} {a10 : Option Nat} {a11 : Option Nat} {x12 : Int32} {o1 : Nat} {d' b' : Nat} {P : Option WV → GH → Prop} {PX : String → Nat → GH → Prop}
    (e1 : a2 = some o1)
    (hkr : hp_kd G o1 = 2)
    (hC : wk_C w mJ28_equals d' b' [vR (some o1), vR a11] G P PX)
    (hdp : d' + 1 ≤ j.1)
    (hb : b' ≤ r)
    (kr : ∀ v G', P v G' → wk_V w mJ7_putVal j 206 [(0, vR (some a0)), (1, vI x1), (2, vR a2), (3, vR a3), (4, vI x4), (5, vI x5), (6, vR a6), (10, vR a10), (12, vI x12)] (v.toList ++ []) G' (r - b'))
    (kx : ∀ E q G', PX E q G' → wk_T w mJ7_putVal j 203 [(0, vR (some a0)), (1, vI x1), (2, vR a2), (3, vR a3), (4, vI x4), (5, vI x5), (6, vR a6), (10, vR a10), (11, vR a11), (12, vI x12)] G' (r - b') E q)
    : wk_V w mJ7_putVal j 200 [(0, vR (some a0)), (1, vI x1), (2, vR a2), (3, vR a3), (4, vI x4), (5, vI x5), (6, vR a6), (10, vR a10), (11, vR a11), (12, vI x12)] [] G r := by
  refine wk_aload_n 2 dJ7_putVal_200 rfl rfl ?_
  refine wk_aload dJ7_putVal_201 rfl ?_
  refine wk_eAt 1 e1 rfl ?_
  exact wk_callU (n := 1) (x := ⟨"java/lang/Object", "equals", "(Ljava/lang/Object;)Z"⟩) "java/lang/Object" hC rfl (Or.inl (by decide +kernel)) q1047 q1049 q1048 (by show Cond.selects (hp_C (hp_kd G o1)) _ _ ∈ lw_all; rw [hkr]; exact q1050) q3225 q1081 (by decide +kernel) (Nat.le_of_ble_eq_true rfl) ⟨by show hp_kd G o1 ≠ 0; rw [hkr]; decide, by show hp_kd G o1 < 28; rw [hkr]; decide⟩ rfl rfl (Nat.le_of_ble_eq_true rfl) hdp hb dJ7_putVal_203 (fun v G' h => (wk_sub [(0, vR (some a0)), (1, vI x1), (2, vR a2), (3, vR a3), (4, vI x4), (5, vI x5), (6, vR a6), (10, vR a10), (12, vI x12)] ⟨rfl, rfl, rfl, rfl, rfl, rfl, rfl, rfl, rfl, trivial⟩ (kr v G' h))) kx
theorem blJ7_putVal_200_k5 {w : WD} {j : JB} {r : Nat} {G : GH} {a0 : Nat} {x1 : Int32} {a2 : Option Nat} {a3 : Option Nat} {x4 : Int32} {x5 : Int32} {a6 : Option Nat} {a10 : Option Nat} {a11 : Option Nat} {x12 : Int32} {o1 : Nat} {d' b' : Nat} {P : Option WV → GH → Prop} {PX : String → Nat → GH → Prop}
    (e1 : a2 = some o1)
    (hkr : hp_kd G o1 = 5)
    (hC : wk_C w mJ28_equals d' b' [vR (some o1), vR a11] G P PX)
    (hdp : d' + 1 ≤ j.1)
    (hb : b' ≤ r)
    (kr : ∀ v G', P v G' → wk_V w mJ7_putVal j 206 [(0, vR (some a0)), (1, vI x1), (2, vR a2), (3, vR a3), (4, vI x4), (5, vI x5), (6, vR a6), (10, vR a10), (12, vI x12)] (v.toList ++ []) G' (r - b'))
    (kx : ∀ E q G', PX E q G' → wk_T w mJ7_putVal j 203 [(0, vR (some a0)), (1, vI x1), (2, vR a2), (3, vR a3), (4, vI x4), (5, vI x5), (6, vR a6), (10, vR a10), (11, vR a11), (12, vI x12)] G' (r - b') E q)
    : wk_V w mJ7_putVal j 200 [(0, vR (some a0)), (1, vI x1), (2, vR a2), (3, vR a3), (4, vI x4), (5, vI x5), (6, vR a6), (10, vR a10), (11, vR a11), (12, vI x12)] [] G r := by
  refine wk_aload_n 2 dJ7_putVal_200 rfl rfl ?_
  refine wk_aload dJ7_putVal_201 rfl ?_
  refine wk_eAt 1 e1 rfl ?_
  exact wk_callU (n := 1) (x := ⟨"java/lang/Object", "equals", "(Ljava/lang/Object;)Z"⟩) "java/lang/Object" hC rfl (Or.inl (by decide +kernel)) q1047 q1049 q1048 (by show Cond.selects (hp_C (hp_kd G o1)) _ _ ∈ lw_all; rw [hkr]; exact q1051) q3225 q1081 (by decide +kernel) (Nat.le_of_ble_eq_true rfl) ⟨by show hp_kd G o1 ≠ 0; rw [hkr]; decide, by show hp_kd G o1 < 28; rw [hkr]; decide⟩ rfl rfl (Nat.le_of_ble_eq_true rfl) hdp hb dJ7_putVal_203 (fun v G' h => (wk_sub [(0, vR (some a0)), (1, vI x1), (2, vR a2), (3, vR a3), (4, vI x4), (5, vI x5), (6, vR a6), (10, vR a10), (12, vI x12)] ⟨rfl, rfl, rfl, rfl, rfl, rfl, rfl, rfl, rfl, trivial⟩ (kr v G' h))) kx
theorem blJ7_putVal_200_k18 {w : WD} {j : JB} {r : Nat} {G : GH} {a0 : Nat} {x1 : Int32} {a2 : Option Nat} {a3 : Option Nat} {x4 : Int32} {x5 : Int32} {a6 : Option Nat} {a10 : Option Nat} {a11 : Option Nat} {x12 : Int32} {o1 : Nat} {d' b' : Nat} {P : Option WV → GH → Prop} {PX : String → Nat → GH → Prop}
    (e1 : a2 = some o1)
    (hkr : hp_kd G o1 = 18)
    (hC : wk_C w mJ28_equals d' b' [vR (some o1), vR a11] G P PX)
    (hdp : d' + 1 ≤ j.1)
    (hb : b' ≤ r)
    (kr : ∀ v G', P v G' → wk_V w mJ7_putVal j 206 [(0, vR (some a0)), (1, vI x1), (2, vR a2), (3, vR a3), (4, vI x4), (5, vI x5), (6, vR a6), (10, vR a10), (12, vI x12)] (v.toList ++ []) G' (r - b'))
    (kx : ∀ E q G', PX E q G' → wk_T w mJ7_putVal j 203 [(0, vR (some a0)), (1, vI x1), (2, vR a2), (3, vR a3), (4, vI x4), (5, vI x5), (6, vR a6), (10, vR a10), (11, vR a11), (12, vI x12)] G' (r - b') E q)
    : wk_V w mJ7_putVal j 200 [(0, vR (some a0)), (1, vI x1), (2, vR a2), (3, vR a3), (4, vI x4), (5, vI x5), (6, vR a6), (10, vR a10), (11, vR a11), (12, vI x12)] [] G r := by
  refine wk_aload_n 2 dJ7_putVal_200 rfl rfl ?_
  refine wk_aload dJ7_putVal_201 rfl ?_
  refine wk_eAt 1 e1 rfl ?_
  exact wk_callU (n := 1) (x := ⟨"java/lang/Object", "equals", "(Ljava/lang/Object;)Z"⟩) "java/lang/Object" hC rfl (Or.inl (by decide +kernel)) q1047 q1049 q1048 (by show Cond.selects (hp_C (hp_kd G o1)) _ _ ∈ lw_all; rw [hkr]; exact q1052) q3225 q1081 (by decide +kernel) (Nat.le_of_ble_eq_true rfl) ⟨by show hp_kd G o1 ≠ 0; rw [hkr]; decide, by show hp_kd G o1 < 28; rw [hkr]; decide⟩ rfl rfl (Nat.le_of_ble_eq_true rfl) hdp hb dJ7_putVal_203 (fun v G' h => (wk_sub [(0, vR (some a0)), (1, vI x1), (2, vR a2), (3, vR a3), (4, vI x4), (5, vI x5), (6, vR a6), (10, vR a10), (12, vI x12)] ⟨rfl, rfl, rfl, rfl, rfl, rfl, rfl, rfl, rfl, trivial⟩ (kr v G' h))) kx
theorem blJ7_putVal_200_k21 {w : WD} {j : JB} {r : Nat} {G : GH} {a0 : Nat} {x1 : Int32} {a2 : Option Nat} {a3 : Option Nat} {x4 : Int32} {x5 : Int32} {a6 : Option Nat} {a10 : Option Nat} {a11 : Option Nat} {x12 : Int32} {o1 : Nat} {d' b' : Nat} {P : Option WV → GH → Prop} {PX : String → Nat → GH → Prop}
    (e1 : a2 = some o1)
    (hkr : hp_kd G o1 = 21)
    (hC : wk_C w mJ28_equals d' b' [vR (some o1), vR a11] G P PX)
    (hdp : d' + 1 ≤ j.1)
    (hb : b' ≤ r)
    (kr : ∀ v G', P v G' → wk_V w mJ7_putVal j 206 [(0, vR (some a0)), (1, vI x1), (2, vR a2), (3, vR a3), (4, vI x4), (5, vI x5), (6, vR a6), (10, vR a10), (12, vI x12)] (v.toList ++ []) G' (r - b'))
    (kx : ∀ E q G', PX E q G' → wk_T w mJ7_putVal j 203 [(0, vR (some a0)), (1, vI x1), (2, vR a2), (3, vR a3), (4, vI x4), (5, vI x5), (6, vR a6), (10, vR a10), (11, vR a11), (12, vI x12)] G' (r - b') E q)
    : wk_V w mJ7_putVal j 200 [(0, vR (some a0)), (1, vI x1), (2, vR a2), (3, vR a3), (4, vI x4), (5, vI x5), (6, vR a6), (10, vR a10), (11, vR a11), (12, vI x12)] [] G r := by
  refine wk_aload_n 2 dJ7_putVal_200 rfl rfl ?_
  refine wk_aload dJ7_putVal_201 rfl ?_
  refine wk_eAt 1 e1 rfl ?_
  exact wk_callU (n := 1) (x := ⟨"java/lang/Object", "equals", "(Ljava/lang/Object;)Z"⟩) "java/lang/Object" hC rfl (Or.inl (by decide +kernel)) q1047 q1049 q1048 (by show Cond.selects (hp_C (hp_kd G o1)) _ _ ∈ lw_all; rw [hkr]; exact q1053) q3225 q1081 (by decide +kernel) (Nat.le_of_ble_eq_true rfl) ⟨by show hp_kd G o1 ≠ 0; rw [hkr]; decide, by show hp_kd G o1 < 28; rw [hkr]; decide⟩ rfl rfl (Nat.le_of_ble_eq_true rfl) hdp hb dJ7_putVal_203 (fun v G' h => (wk_sub [(0, vR (some a0)), (1, vI x1), (2, vR a2), (3, vR a3), (4, vI x4), (5, vI x5), (6, vR a6), (10, vR a10), (12, vI x12)] ⟨rfl, rfl, rfl, rfl, rfl, rfl, rfl, rfl, rfl, trivial⟩ (kr v G' h))) kx
theorem blJ7_putVal_200_k16 {w : WD} {j : JB} {r : Nat} {G : GH} {a0 : Nat} {x1 : Int32} {a2 : Option Nat} {a3 : Option Nat} {x4 : Int32} {x5 : Int32} {a6 : Option Nat} {a10 : Option Nat} {a11 : Option Nat} {x12 : Int32} {o1 : Nat} {d' b' : Nat} {P : Option WV → GH → Prop} {PX : String → Nat → GH → Prop}
    (e1 : a2 = some o1)
    (hkr : hp_kd G o1 = 16)
    (hC : wk_C w mJ28_equals d' b' [vR (some o1), vR a11] G P PX)
    (hdp : d' + 1 ≤ j.1)
    (hb : b' ≤ r)
    (kr : ∀ v G', P v G' → wk_V w mJ7_putVal j 206 [(0, vR (some a0)), (1, vI x1), (2, vR a2), (3, vR a3), (4, vI x4), (5, vI x5), (6, vR a6), (10, vR a10), (12, vI x12)] (v.toList ++ []) G' (r - b'))
    (kx : ∀ E q G', PX E q G' → wk_T w mJ7_putVal j 203 [(0, vR (some a0)), (1, vI x1), (2, vR a2), (3, vR a3), (4, vI x4), (5, vI x5), (6, vR a6), (10, vR a10), (11, vR a11), (12, vI x12)] G' (r - b') E q)
    : wk_V w mJ7_putVal j 200 [(0, vR (some a0)), (1, vI x1), (2, vR a2), (3, vR a3), (4, vI x4), (5, vI x5), (6, vR a6), (10, vR a10), (11, vR a11), (12, vI x12)] [] G r := by
  refine wk_aload_n 2 dJ7_putVal_200 rfl rfl ?_
  refine wk_aload dJ7_putVal_201 rfl ?_
  refine wk_eAt 1 e1 rfl ?_
  exact wk_callU (n := 1) (x := ⟨"java/lang/Object", "equals", "(Ljava/lang/Object;)Z"⟩) "java/lang/Object" hC rfl (Or.inl (by decide +kernel)) q1047 q1049 q1048 (by show Cond.selects (hp_C (hp_kd G o1)) _ _ ∈ lw_all; rw [hkr]; exact q1054) q3225 q1081 (by decide +kernel) (Nat.le_of_ble_eq_true rfl) ⟨by show hp_kd G o1 ≠ 0; rw [hkr]; decide, by show hp_kd G o1 < 28; rw [hkr]; decide⟩ rfl rfl (Nat.le_of_ble_eq_true rfl) hdp hb dJ7_putVal_203 (fun v G' h => (wk_sub [(0, vR (some a0)), (1, vI x1), (2, vR a2), (3, vR a3), (4, vI x4), (5, vI x5), (6, vR a6), (10, vR a10), (12, vI x12)] ⟨rfl, rfl, rfl, rfl, rfl, rfl, rfl, rfl, rfl, trivial⟩ (kr v G' h))) kx
theorem blJ7_putVal_200_k13 {w : WD} {j : JB} {r : Nat} {G : GH} {a0 : Nat} {x1 : Int32} {a2 : Option Nat} {a3 : Option Nat} {x4 : Int32} {x5 : Int32} {a6 : Option Nat} {a10 : Option Nat} {a11 : Option Nat} {x12 : Int32} {o1 : Nat} {d' b' : Nat} {P : Option WV → GH → Prop} {PX : String → Nat → GH → Prop}
    (e1 : a2 = some o1)
    (hkr : hp_kd G o1 = 13)
    (hC : wk_C w mJ28_equals d' b' [vR (some o1), vR a11] G P PX)
    (hdp : d' + 1 ≤ j.1)
    (hb : b' ≤ r)
    (kr : ∀ v G', P v G' → wk_V w mJ7_putVal j 206 [(0, vR (some a0)), (1, vI x1), (2, vR a2), (3, vR a3), (4, vI x4), (5, vI x5), (6, vR a6), (10, vR a10), (12, vI x12)] (v.toList ++ []) G' (r - b'))
    (kx : ∀ E q G', PX E q G' → wk_T w mJ7_putVal j 203 [(0, vR (some a0)), (1, vI x1), (2, vR a2), (3, vR a3), (4, vI x4), (5, vI x5), (6, vR a6), (10, vR a10), (11, vR a11), (12, vI x12)] G' (r - b') E q)
    : wk_V w mJ7_putVal j 200 [(0, vR (some a0)), (1, vI x1), (2, vR a2), (3, vR a3), (4, vI x4), (5, vI x5), (6, vR a6), (10, vR a10), (11, vR a11), (12, vI x12)] [] G r := by
  refine wk_aload_n 2 dJ7_putVal_200 rfl rfl ?_
  refine wk_aload dJ7_putVal_201 rfl ?_
  refine wk_eAt 1 e1 rfl ?_
  exact wk_callU (n := 1) (x := ⟨"java/lang/Object", "equals", "(Ljava/lang/Object;)Z"⟩) "java/lang/Object" hC rfl (Or.inl (by decide +kernel)) q1047 q1049 q1048 (by show Cond.selects (hp_C (hp_kd G o1)) _ _ ∈ lw_all; rw [hkr]; exact q1055) q3225 q1081 (by decide +kernel) (Nat.le_of_ble_eq_true rfl) ⟨by show hp_kd G o1 ≠ 0; rw [hkr]; decide, by show hp_kd G o1 < 28; rw [hkr]; decide⟩ rfl rfl (Nat.le_of_ble_eq_true rfl) hdp hb dJ7_putVal_203 (fun v G' h => (wk_sub [(0, vR (some a0)), (1, vI x1), (2, vR a2), (3, vR a3), (4, vI x4), (5, vI x5), (6, vR a6), (10, vR a10), (12, vI x12)] ⟨rfl, rfl, rfl, rfl, rfl, rfl, rfl, rfl, rfl, trivial⟩ (kr v G' h))) kx
theorem blJ7_putVal_200_k20 {w : WD} {j : JB} {r : Nat} {G : GH} {a0 : Nat} {x1 : Int32} {a2 : Option Nat} {a3 : Option Nat} {x4 : Int32} {x5 : Int32} {a6 : Option Nat} {a10 : Option Nat} {a11 : Option Nat} {x12 : Int32} {o1 : Nat} {d' b' : Nat} {P : Option WV → GH → Prop} {PX : String → Nat → GH → Prop}
    (e1 : a2 = some o1)
    (hkr : hp_kd G o1 = 20)
    (hC : wk_C w mJ28_equals d' b' [vR (some o1), vR a11] G P PX)
    (hdp : d' + 1 ≤ j.1)
    (hb : b' ≤ r)
    (kr : ∀ v G', P v G' → wk_V w mJ7_putVal j 206 [(0, vR (some a0)), (1, vI x1), (2, vR a2), (3, vR a3), (4, vI x4), (5, vI x5), (6, vR a6), (10, vR a10), (12, vI x12)] (v.toList ++ []) G' (r - b'))
    (kx : ∀ E q G', PX E q G' → wk_T w mJ7_putVal j 203 [(0, vR (some a0)), (1, vI x1), (2, vR a2), (3, vR a3), (4, vI x4), (5, vI x5), (6, vR a6), (10, vR a10), (11, vR a11), (12, vI x12)] G' (r - b') E q)
    : wk_V w mJ7_putVal j 200 [(0, vR (some a0)), (1, vI x1), (2, vR a2), (3, vR a3), (4, vI x4), (5, vI x5), (6, vR a6), (10, vR a10), (11, vR a11), (12, vI x12)] [] G r := by
  refine wk_aload_n 2 dJ7_putVal_200 rfl rfl ?_
  refine wk_aload dJ7_putVal_201 rfl ?_
  refine wk_eAt 1 e1 rfl ?_
  exact wk_callU (n := 1) (x := ⟨"java/lang/Object", "equals", "(Ljava/lang/Object;)Z"⟩) "java/lang/Object" hC rfl (Or.inl (by decide +kernel)) q1047 q1049 q1048 (by show Cond.selects (hp_C (hp_kd G o1)) _ _ ∈ lw_all; rw [hkr]; exact q1056) q3225 q1081 (by decide +kernel) (Nat.le_of_ble_eq_true rfl) ⟨by show hp_kd G o1 ≠ 0; rw [hkr]; decide, by show hp_kd G o1 < 28; rw [hkr]; decide⟩ rfl rfl (Nat.le_of_ble_eq_true rfl) hdp hb dJ7_putVal_203 (fun v G' h => (wk_sub [(0, vR (some a0)), (1, vI x1), (2, vR a2), (3, vR a3), (4, vI x4), (5, vI x5), (6, vR a6), (10, vR a10), (12, vI x12)] ⟨rfl, rfl, rfl, rfl, rfl, rfl, rfl, rfl, rfl, trivial⟩ (kr v G' h))) kx
theorem blJ7_putVal_200_k7 {w : WD} {j : JB} {r : Nat} {G : GH} {a0 : Nat} {x1 : Int32} {a2 : Option Nat} {a3 : Option Nat} {x4 : Int32} {x5 : Int32} {a6 : Option Nat} {a10 : Option Nat} {a11 : Option Nat} {x12 : Int32} {o1 : Nat} {d' b' : Nat} {P : Option WV → GH → Prop} {PX : String → Nat → GH → Prop}
    (e1 : a2 = some o1)
    (hkr : hp_kd G o1 = 7)
    (hC : wk_C w mJ28_equals d' b' [vR (some o1), vR a11] G P PX)
    (hdp : d' + 1 ≤ j.1)
    (hb : b' ≤ r)
    (kr : ∀ v G', P v G' → wk_V w mJ7_putVal j 206 [(0, vR (some a0)), (1, vI x1), (2, vR a2), (3, vR a3), (4, vI x4), (5, vI x5), (6, vR a6), (10, vR a10), (12, vI x12)] (v.toList ++ []) G' (r - b'))
    (kx : ∀ E q G', PX E q G' → wk_T w mJ7_putVal j 203 [(0, vR (some a0)), (1, vI x1), (2, vR a2), (3, vR a3), (4, vI x4), (5, vI x5), (6, vR a6), (10, vR a10), (11, vR a11), (12, vI x12)] G' (r - b') E q)
    : wk_V w mJ7_putVal j 200 [(0, vR (some a0)), (1, vI x1), (2, vR a2), (3, vR a3), (4, vI x4), (5, vI x5), (6, vR a6), (10, vR a10), (11, vR a11), (12, vI x12)] [] G r := by
  refine wk_aload_n 2 dJ7_putVal_200 rfl rfl ?_
  refine wk_aload dJ7_putVal_201 rfl ?_
  refine wk_eAt 1 e1 rfl ?_
  exact wk_callU (n := 1) (x := ⟨"java/lang/Object", "equals", "(Ljava/lang/Object;)Z"⟩) "java/lang/Object" hC rfl (Or.inl (by decide +kernel)) q1047 q1049 q1048 (by show Cond.selects (hp_C (hp_kd G o1)) _ _ ∈ lw_all; rw [hkr]; exact q1057) q3225 q1081 (by decide +kernel) (Nat.le_of_ble_eq_true rfl) ⟨by show hp_kd G o1 ≠ 0; rw [hkr]; decide, by show hp_kd G o1 < 28; rw [hkr]; decide⟩ rfl rfl (Nat.le_of_ble_eq_true rfl) hdp hb dJ7_putVal_203 (fun v G' h => (wk_sub [(0, vR (some a0)), (1, vI x1), (2, vR a2), (3, vR a3), (4, vI x4), (5, vI x5), (6, vR a6), (10, vR a10), (12, vI x12)] ⟨rfl, rfl, rfl, rfl, rfl, rfl, rfl, rfl, rfl, trivial⟩ (kr v G' h))) kx
theorem blJ7_putVal_200_k17 {w : WD} {j : JB} {r : Nat} {G : GH} {a0 : Nat} {x1 : Int32} {a2 : Option Nat} {a3 : Option Nat} {x4 : Int32} {x5 : Int32} {a6 : Option Nat} {a10 : Option Nat} {a11 : Option Nat} {x12 : Int32} {o1 : Nat} {d' b' : Nat} {P : Option WV → GH → Prop} {PX : String → Nat → GH → Prop}
    (e1 : a2 = some o1)
    (hkr : hp_kd G o1 = 17)
    (hC : wk_C w mJ28_equals d' b' [vR (some o1), vR a11] G P PX)
    (hdp : d' + 1 ≤ j.1)
    (hb : b' ≤ r)
    (kr : ∀ v G', P v G' → wk_V w mJ7_putVal j 206 [(0, vR (some a0)), (1, vI x1), (2, vR a2), (3, vR a3), (4, vI x4), (5, vI x5), (6, vR a6), (10, vR a10), (12, vI x12)] (v.toList ++ []) G' (r - b'))
    (kx : ∀ E q G', PX E q G' → wk_T w mJ7_putVal j 203 [(0, vR (some a0)), (1, vI x1), (2, vR a2), (3, vR a3), (4, vI x4), (5, vI x5), (6, vR a6), (10, vR a10), (11, vR a11), (12, vI x12)] G' (r - b') E q)
    : wk_V w mJ7_putVal j 200 [(0, vR (some a0)), (1, vI x1), (2, vR a2), (3, vR a3), (4, vI x4), (5, vI x5), (6, vR a6), (10, vR a10), (11, vR a11), (12, vI x12)] [] G r := by
  refine wk_aload_n 2 dJ7_putVal_200 rfl rfl ?_
  refine wk_aload dJ7_putVal_201 rfl ?_
  refine wk_eAt 1 e1 rfl ?_
  exact wk_callU (n := 1) (x := ⟨"java/lang/Object", "equals", "(Ljava/lang/Object;)Z"⟩) "java/lang/Object" hC rfl (Or.inl (by decide +kernel)) q1047 q1049 q1048 (by show Cond.selects (hp_C (hp_kd G o1)) _ _ ∈ lw_all; rw [hkr]; exact q1058) q3225 q1081 (by decide +kernel) (Nat.le_of_ble_eq_true rfl) ⟨by show hp_kd G o1 ≠ 0; rw [hkr]; decide, by show hp_kd G o1 < 28; rw [hkr]; decide⟩ rfl rfl (Nat.le_of_ble_eq_true rfl) hdp hb dJ7_putVal_203 (fun v G' h => (wk_sub [(0, vR (some a0)), (1, vI x1), (2, vR a2), (3, vR a3), (4, vI x4), (5, vI x5), (6, vR a6), (10, vR a10), (12, vI x12)] ⟨rfl, rfl, rfl, rfl, rfl, rfl, rfl, rfl, rfl, trivial⟩ (kr v G' h))) kx
theorem blJ7_putVal_200_k9 {w : WD} {j : JB} {r : Nat} {G : GH} {a0 : Nat} {x1 : Int32} {a2 : Option Nat} {a3 : Option Nat} {x4 : Int32} {x5 : Int32} {a6 : Option Nat} {a10 : Option Nat} {a11 : Option Nat} {x12 : Int32} {o1 : Nat} {d' b' : Nat} {P : Option WV → GH → Prop} {PX : String → Nat → GH → Prop}
    (e1 : a2 = some o1)
    (hkr : hp_kd G o1 = 9)
    (hC : wk_C w mJ28_equals d' b' [vR (some o1), vR a11] G P PX)
    (hdp : d' + 1 ≤ j.1)
    (hb : b' ≤ r)
    (kr : ∀ v G', P v G' → wk_V w mJ7_putVal j 206 [(0, vR (some a0)), (1, vI x1), (2, vR a2), (3, vR a3), (4, vI x4), (5, vI x5), (6, vR a6), (10, vR a10), (12, vI x12)] (v.toList ++ []) G' (r - b'))
    (kx : ∀ E q G', PX E q G' → wk_T w mJ7_putVal j 203 [(0, vR (some a0)), (1, vI x1), (2, vR a2), (3, vR a3), (4, vI x4), (5, vI x5), (6, vR a6), (10, vR a10), (11, vR a11), (12, vI x12)] G' (r - b') E q)
    : wk_V w mJ7_putVal j 200 [(0, vR (some a0)), (1, vI x1), (2, vR a2), (3, vR a3), (4, vI x4), (5, vI x5), (6, vR a6), (10, vR a10), (11, vR a11), (12, vI x12)] [] G r := by
  refine wk_aload_n 2 dJ7_putVal_200 rfl rfl ?_
  refine wk_aload dJ7_putVal_201 rfl ?_
  refine wk_eAt 1 e1 rfl ?_
  exact wk_callU (n := 1) (x := ⟨"java/lang/Object", "equals", "(Ljava/lang/Object;)Z"⟩) "java/lang/Object" hC rfl (Or.inl (by decide +kernel)) q1047 q1049 q1048 (by show Cond.selects (hp_C (hp_kd G o1)) _ _ ∈ lw_all; rw [hkr]; exact q1059) q3225 q1081 (by decide +kernel) (Nat.le_of_ble_eq_true rfl) ⟨by show hp_kd G o1 ≠ 0; rw [hkr]; decide, by show hp_kd G o1 < 28; rw [hkr]; decide⟩ rfl rfl (Nat.le_of_ble_eq_true rfl) hdp hb dJ7_putVal_203 (fun v G' h => (wk_sub [(0, vR (some a0)), (1, vI x1), (2, vR a2), (3, vR a3), (4, vI x4), (5, vI x5), (6, vR a6), (10, vR a10), (12, vI x12)] ⟨rfl, rfl, rfl, rfl, rfl, rfl, rfl, rfl, rfl, trivial⟩ (kr v G' h))) kx
theorem blJ7_putVal_200_k11 {w : WD} {j : JB} {r : Nat} {G : GH} {a0 : Nat} {x1 : Int32} {a2 : Option Nat} {a3 : Option Nat} {x4 : Int32} {x5 : Int32} {a6 : Option Nat} {a10 : Option Nat} {a11 : Option Nat} {x12 : Int32} {o1 : Nat} {d' b' : Nat} {P : Option WV → GH → Prop} {PX : String → Nat → GH → Prop}
    (e1 : a2 = some o1)
    (hkr : hp_kd G o1 = 11)
    (hC : wk_C w mJ28_equals d' b' [vR (some o1), vR a11] G P PX)
    (hdp : d' + 1 ≤ j.1)
    (hb : b' ≤ r)
    (kr : ∀ v G', P v G' → wk_V w mJ7_putVal j 206 [(0, vR (some a0)), (1, vI x1), (2, vR a2), (3, vR a3), (4, vI x4), (5, vI x5), (6, vR a6), (10, vR a10), (12, vI x12)] (v.toList ++ []) G' (r - b'))
    (kx : ∀ E q G', PX E q G' → wk_T w mJ7_putVal j 203 [(0, vR (some a0)), (1, vI x1), (2, vR a2), (3, vR a3), (4, vI x4), (5, vI x5), (6, vR a6), (10, vR a10), (11, vR a11), (12, vI x12)] G' (r - b') E q)
    : wk_V w mJ7_putVal j 200 [(0, vR (some a0)), (1, vI x1), (2, vR a2), (3, vR a3), (4, vI x4), (5, vI x5), (6, vR a6), (10, vR a10), (11, vR a11), (12, vI x12)] [] G r := by
  refine wk_aload_n 2 dJ7_putVal_200 rfl rfl ?_
  refine wk_aload dJ7_putVal_201 rfl ?_
  refine wk_eAt 1 e1 rfl ?_
  exact wk_callU (n := 1) (x := ⟨"java/lang/Object", "equals", "(Ljava/lang/Object;)Z"⟩) "java/lang/Object" hC rfl (Or.inl (by decide +kernel)) q1047 q1049 q1048 (by show Cond.selects (hp_C (hp_kd G o1)) _ _ ∈ lw_all; rw [hkr]; exact q1060) q3225 q1081 (by decide +kernel) (Nat.le_of_ble_eq_true rfl) ⟨by show hp_kd G o1 ≠ 0; rw [hkr]; decide, by show hp_kd G o1 < 28; rw [hkr]; decide⟩ rfl rfl (Nat.le_of_ble_eq_true rfl) hdp hb dJ7_putVal_203 (fun v G' h => (wk_sub [(0, vR (some a0)), (1, vI x1), (2, vR a2), (3, vR a3), (4, vI x4), (5, vI x5), (6, vR a6), (10, vR a10), (12, vI x12)] ⟨rfl, rfl, rfl, rfl, rfl, rfl, rfl, rfl, rfl, trivial⟩ (kr v G' h))) kx
theorem blJ7_putVal_200_k14 {w : WD} {j : JB} {r : Nat} {G : GH} {a0 : Nat} {x1 : Int32} {a2 : Option Nat} {a3 : Option Nat} {x4 : Int32} {x5 : Int32} {a6 : Option Nat} {a10 : Option Nat} {a11 : Option Nat} {x12 : Int32} {o1 : Nat} {d' b' : Nat} {P : Option WV → GH → Prop} {PX : String → Nat → GH → Prop}
    (e1 : a2 = some o1)
    (hkr : hp_kd G o1 = 14)
    (hC : wk_C w mJ28_equals d' b' [vR (some o1), vR a11] G P PX)
    (hdp : d' + 1 ≤ j.1)
    (hb : b' ≤ r)
    (kr : ∀ v G', P v G' → wk_V w mJ7_putVal j 206 [(0, vR (some a0)), (1, vI x1), (2, vR a2), (3, vR a3), (4, vI x4), (5, vI x5), (6, vR a6), (10, vR a10), (12, vI x12)] (v.toList ++ []) G' (r - b'))
    (kx : ∀ E q G', PX E q G' → wk_T w mJ7_putVal j 203 [(0, vR (some a0)), (1, vI x1), (2, vR a2), (3, vR a3), (4, vI x4), (5, vI x5), (6, vR a6), (10, vR a10), (11, vR a11), (12, vI x12)] G' (r - b') E q)
    : wk_V w mJ7_putVal j 200 [(0, vR (some a0)), (1, vI x1), (2, vR a2), (3, vR a3), (4, vI x4), (5, vI x5), (6, vR a6), (10, vR a10), (11, vR a11), (12, vI x12)] [] G r := by
  refine wk_aload_n 2 dJ7_putVal_200 rfl rfl ?_
  refine wk_aload dJ7_putVal_201 rfl ?_
  refine wk_eAt 1 e1 rfl ?_
  exact wk_callU (n := 1) (x := ⟨"java/lang/Object", "equals", "(Ljava/lang/Object;)Z"⟩) "java/lang/Object" hC rfl (Or.inl (by decide +kernel)) q1047 q1049 q1048 (by show Cond.selects (hp_C (hp_kd G o1)) _ _ ∈ lw_all; rw [hkr]; exact q1061) q3225 q1081 (by decide +kernel) (Nat.le_of_ble_eq_true rfl) ⟨by show hp_kd G o1 ≠ 0; rw [hkr]; decide, by show hp_kd G o1 < 28; rw [hkr]; decide⟩ rfl rfl (Nat.le_of_ble_eq_true rfl) hdp hb dJ7_putVal_203 (fun v G' h => (wk_sub [(0, vR (some a0)), (1, vI x1), (2, vR a2), (3, vR a3), (4, vI x4), (5, vI x5), (6, vR a6), (10, vR a10), (12, vI x12)] ⟨rfl, rfl, rfl, rfl, rfl, rfl, rfl, rfl, rfl, trivial⟩ (kr v G' h))) kx
theorem blJ7_putVal_200_k8 {w : WD} {j : JB} {r : Nat} {G : GH} {a0 : Nat} {x1 : Int32} {a2 : Option Nat} {a3 : Option Nat} {x4 : Int32} {x5 : Int32} {a6 : Option Nat} {a10 : Option Nat} {a11 : Option Nat} {x12 : Int32} {o1 : Nat} {d' b' : Nat} {P : Option WV → GH → Prop} {PX : String → Nat → GH → Prop}
    (e1 : a2 = some o1)
    (hkr : hp_kd G o1 = 8)
    (hC : wk_C w mJ28_equals d' b' [vR (some o1), vR a11] G P PX)
    (hdp : d' + 1 ≤ j.1)
    (hb : b' ≤ r)
    (kr : ∀ v G', P v G' → wk_V w mJ7_putVal j 206 [(0, vR (some a0)), (1, vI x1), (2, vR a2), (3, vR a3), (4, vI x4), (5, vI x5), (6, vR a6), (10, vR a10), (12, vI x12)] (v.toList ++ []) G' (r - b'))
    (kx : ∀ E q G', PX E q G' → wk_T w mJ7_putVal j 203 [(0, vR (some a0)), (1, vI x1), (2, vR a2), (3, vR a3), (4, vI x4), (5, vI x5), (6, vR a6), (10, vR a10), (11, vR a11), (12, vI x12)] G' (r - b') E q)
    : wk_V w mJ7_putVal j 200 [(0, vR (some a0)), (1, vI x1), (2, vR a2), (3, vR a3), (4, vI x4), (5, vI x5), (6, vR a6), (10, vR a10), (11, vR a11), (12, vI x12)] [] G r := by
  refine wk_aload_n 2 dJ7_putVal_200 rfl rfl ?_
  refine wk_aload dJ7_putVal_201 rfl ?_
  refine wk_eAt 1 e1 rfl ?_
  exact wk_callU (n := 1) (x := ⟨"java/lang/Object", "equals", "(Ljava/lang/Object;)Z"⟩) "java/lang/Object" hC rfl (Or.inl (by decide +kernel)) q1047 q1049 q1048 (by show Cond.selects (hp_C (hp_kd G o1)) _ _ ∈ lw_all; rw [hkr]; exact q1062) q3225 q1081 (by decide +kernel) (Nat.le_of_ble_eq_true rfl) ⟨by show hp_kd G o1 ≠ 0; rw [hkr]; decide, by show hp_kd G o1 < 28; rw [hkr]; decide⟩ rfl rfl (Nat.le_of_ble_eq_true rfl) hdp hb dJ7_putVal_203 (fun v G' h => (wk_sub [(0, vR (some a0)), (1, vI x1), (2, vR a2), (3, vR a3), (4, vI x4), (5, vI x5), (6, vR a6), (10, vR a10), (12, vI x12)] ⟨rfl, rfl, rfl, rfl, rfl, rfl, rfl, rfl, rfl, trivial⟩ (kr v G' h))) kx
theorem blJ7_putVal_200_k10 {w : WD} {j : JB} {r : Nat} {G : GH} {a0 : Nat} {x1 : Int32} {a2 : Option Nat} {a3 : Option Nat} {x4 : Int32} {x5 : Int32} {a6 : Option Nat} {a10 : Option Nat} {a11 : Option Nat} {x12 : Int32} {o1 : Nat} {d' b' : Nat} {P : Option WV → GH → Prop} {PX : String → Nat → GH → Prop}
    (e1 : a2 = some o1)
    (hkr : hp_kd G o1 = 10)
    (hC : wk_C w mJ28_equals d' b' [vR (some o1), vR a11] G P PX)
    (hdp : d' + 1 ≤ j.1)
    (hb : b' ≤ r)
    (kr : ∀ v G', P v G' → wk_V w mJ7_putVal j 206 [(0, vR (some a0)), (1, vI x1), (2, vR a2), (3, vR a3), (4, vI x4), (5, vI x5), (6, vR a6), (10, vR a10), (12, vI x12)] (v.toList ++ []) G' (r - b'))
    (kx : ∀ E q G', PX E q G' → wk_T w mJ7_putVal j 203 [(0, vR (some a0)), (1, vI x1), (2, vR a2), (3, vR a3), (4, vI x4), (5, vI x5), (6, vR a6), (10, vR a10), (11, vR a11), (12, vI x12)] G' (r - b') E q)
    : wk_V w mJ7_putVal j 200 [(0, vR (some a0)), (1, vI x1), (2, vR a2), (3, vR a3), (4, vI x4), (5, vI x5), (6, vR a6), (10, vR a10), (11, vR a11), (12, vI x12)] [] G r := by
  refine wk_aload_n 2 dJ7_putVal_200 rfl rfl ?_
  refine wk_aload dJ7_putVal_201 rfl ?_
  refine wk_eAt 1 e1 rfl ?_
  exact wk_callU (n := 1) (x := ⟨"java/lang/Object", "equals", "(Ljava/lang/Object;)Z"⟩) "java/lang/Object" hC rfl (Or.inl (by decide +kernel)) q1047 q1049 q1048 (by show Cond.selects (hp_C (hp_kd G o1)) _ _ ∈ lw_all; rw [hkr]; exact q1063) q3225 q1081 (by decide +kernel) (Nat.le_of_ble_eq_true rfl) ⟨by show hp_kd G o1 ≠ 0; rw [hkr]; decide, by show hp_kd G o1 < 28; rw [hkr]; decide⟩ rfl rfl (Nat.le_of_ble_eq_true rfl) hdp hb dJ7_putVal_203 (fun v G' h => (wk_sub [(0, vR (some a0)), (1, vI x1), (2, vR a2), (3, vR a3), (4, vI x4), (5, vI x5), (6, vR a6), (10, vR a10), (12, vI x12)] ⟨rfl, rfl, rfl, rfl, rfl, rfl, rfl, rfl, rfl, trivial⟩ (kr v G' h))) kx
theorem blJ7_putVal_200_k15 {w : WD} {j : JB} {r : Nat} {G : GH} {a0 : Nat} {x1 : Int32} {a2 : Option Nat} {a3 : Option Nat} {x4 : Int32} {x5 : Int32} {a6 : Option Nat} {a10 : Option Nat} {a11 : Option Nat} {x12 : Int32} {o1 : Nat} {d' b' : Nat} {P : Option WV → GH → Prop} {PX : String → Nat → GH → Prop}
    (e1 : a2 = some o1)
    (hkr : hp_kd G o1 = 15)
    (hC : wk_C w mJ28_equals d' b' [vR (some o1), vR a11] G P PX)
    (hdp : d' + 1 ≤ j.1)
    (hb : b' ≤ r)
    (kr : ∀ v G', P v G' → wk_V w mJ7_putVal j 206 [(0, vR (some a0)), (1, vI x1), (2, vR a2), (3, vR a3), (4, vI x4), (5, vI x5), (6, vR a6), (10, vR a10), (12, vI x12)] (v.toList ++ []) G' (r - b'))
    (kx : ∀ E q G', PX E q G' → wk_T w mJ7_putVal j 203 [(0, vR (some a0)), (1, vI x1), (2, vR a2), (3, vR a3), (4, vI x4), (5, vI x5), (6, vR a6), (10, vR a10), (11, vR a11), (12, vI x12)] G' (r - b') E q)
    : wk_V w mJ7_putVal j 200 [(0, vR (some a0)), (1, vI x1), (2, vR a2), (3, vR a3), (4, vI x4), (5, vI x5), (6, vR a6), (10, vR a10), (11, vR a11), (12, vI x12)] [] G r := by
  refine wk_aload_n 2 dJ7_putVal_200 rfl rfl ?_
  refine wk_aload dJ7_putVal_201 rfl ?_
  refine wk_eAt 1 e1 rfl ?_
  exact wk_callU (n := 1) (x := ⟨"java/lang/Object", "equals", "(Ljava/lang/Object;)Z"⟩) "java/lang/Object" hC rfl (Or.inl (by decide +kernel)) q1047 q1049 q1048 (by show Cond.selects (hp_C (hp_kd G o1)) _ _ ∈ lw_all; rw [hkr]; exact q1064) q3225 q1081 (by decide +kernel) (Nat.le_of_ble_eq_true rfl) ⟨by show hp_kd G o1 ≠ 0; rw [hkr]; decide, by show hp_kd G o1 < 28; rw [hkr]; decide⟩ rfl rfl (Nat.le_of_ble_eq_true rfl) hdp hb dJ7_putVal_203 (fun v G' h => (wk_sub [(0, vR (some a0)), (1, vI x1), (2, vR a2), (3, vR a3), (4, vI x4), (5, vI x5), (6, vR a6), (10, vR a10), (12, vI x12)] ⟨rfl, rfl, rfl, rfl, rfl, rfl, rfl, rfl, rfl, trivial⟩ (kr v G' h))) kx
theorem blJ7_putVal_200_k12 {w : WD} {j : JB} {r : Nat} {G : GH} {a0 : Nat} {x1 : Int32} {a2 : Option Nat} {a3 : Option Nat} {x4 : Int32} {x5 : Int32} {a6 : Option Nat} {a10 : Option Nat} {a11 : Option Nat} {x12 : Int32} {o1 : Nat} {d' b' : Nat} {P : Option WV → GH → Prop} {PX : String → Nat → GH → Prop}
    (e1 : a2 = some o1)
    (hkr : hp_kd G o1 = 12)
    (hC : wk_C w mJ28_equals d' b' [vR (some o1), vR a11] G P PX)
    (hdp : d' + 1 ≤ j.1)
    (hb : b' ≤ r)
    (kr : ∀ v G', P v G' → wk_V w mJ7_putVal j 206 [(0, vR (some a0)), (1, vI x1), (2, vR a2), (3, vR a3), (4, vI x4), (5, vI x5), (6, vR a6), (10, vR a10), (12, vI x12)] (v.toList ++ []) G' (r - b'))
    (kx : ∀ E q G', PX E q G' → wk_T w mJ7_putVal j 203 [(0, vR (some a0)), (1, vI x1), (2, vR a2), (3, vR a3), (4, vI x4), (5, vI x5), (6, vR a6), (10, vR a10), (11, vR a11), (12, vI x12)] G' (r - b') E q)
    : wk_V w mJ7_putVal j 200 [(0, vR (some a0)), (1, vI x1), (2, vR a2), (3, vR a3), (4, vI x4), (5, vI x5), (6, vR a6), (10, vR a10), (11, vR a11), (12, vI x12)] [] G r := by
  refine wk_aload_n 2 dJ7_putVal_200 rfl rfl ?_
  refine wk_aload dJ7_putVal_201 rfl ?_
  refine wk_eAt 1 e1 rfl ?_
  exact wk_callU (n := 1) (x := ⟨"java/lang/Object", "equals", "(Ljava/lang/Object;)Z"⟩) "java/lang/Object" hC rfl (Or.inl (by decide +kernel)) q1047 q1049 q1048 (by show Cond.selects (hp_C (hp_kd G o1)) _ _ ∈ lw_all; rw [hkr]; exact q1065) q3225 q1081 (by decide +kernel) (Nat.le_of_ble_eq_true rfl) ⟨by show hp_kd G o1 ≠ 0; rw [hkr]; decide, by show hp_kd G o1 < 28; rw [hkr]; decide⟩ rfl rfl (Nat.le_of_ble_eq_true rfl) hdp hb dJ7_putVal_203 (fun v G' h => (wk_sub [(0, vR (some a0)), (1, vI x1), (2, vR a2), (3, vR a3), (4, vI x4), (5, vI x5), (6, vR a6), (10, vR a10), (12, vI x12)] ⟨rfl, rfl, rfl, rfl, rfl, rfl, rfl, rfl, rfl, trivial⟩ (kr v G' h))) kx
theorem blJ7_putVal_200_k6 {w : WD} {j : JB} {r : Nat} {G : GH} {a0 : Nat} {x1 : Int32} {a2 : Option Nat} {a3 : Option Nat} {x4 : Int32} {x5 : Int32} {a6 : Option Nat} {a10 : Option Nat} {a11 : Option Nat} {x12 : Int32} {o1 : Nat} {d' b' : Nat} {P : Option WV → GH → Prop} {PX : String → Nat → GH → Prop}
    (e1 : a2 = some o1)
    (hkr : hp_kd G o1 = 6)
    (hC : wk_C w mJ28_equals d' b' [vR (some o1), vR a11] G P PX)
    (hdp : d' + 1 ≤ j.1)
    (hb : b' ≤ r)
    (kr : ∀ v G', P v G' → wk_V w mJ7_putVal j 206 [(0, vR (some a0)), (1, vI x1), (2, vR a2), (3, vR a3), (4, vI x4), (5, vI x5), (6, vR a6), (10, vR a10), (12, vI x12)] (v.toList ++ []) G' (r - b'))
    (kx : ∀ E q G', PX E q G' → wk_T w mJ7_putVal j 203 [(0, vR (some a0)), (1, vI x1), (2, vR a2), (3, vR a3), (4, vI x4), (5, vI x5), (6, vR a6), (10, vR a10), (11, vR a11), (12, vI x12)] G' (r - b') E q)
    : wk_V w mJ7_putVal j 200 [(0, vR (some a0)), (1, vI x1), (2, vR a2), (3, vR a3), (4, vI x4), (5, vI x5), (6, vR a6), (10, vR a10), (11, vR a11), (12, vI x12)] [] G r := by
  refine wk_aload_n 2 dJ7_putVal_200 rfl rfl ?_
  refine wk_aload dJ7_putVal_201 rfl ?_
  refine wk_eAt 1 e1 rfl ?_
  exact wk_callU (n := 1) (x := ⟨"java/lang/Object", "equals", "(Ljava/lang/Object;)Z"⟩) "java/lang/Object" hC rfl (Or.inl (by decide +kernel)) q1047 q1049 q1048 (by show Cond.selects (hp_C (hp_kd G o1)) _ _ ∈ lw_all; rw [hkr]; exact q1070) q3225 q1081 (by decide +kernel) (Nat.le_of_ble_eq_true rfl) ⟨by show hp_kd G o1 ≠ 0; rw [hkr]; decide, by show hp_kd G o1 < 28; rw [hkr]; decide⟩ rfl rfl (Nat.le_of_ble_eq_true rfl) hdp hb dJ7_putVal_203 (fun v G' h => (wk_sub [(0, vR (some a0)), (1, vI x1), (2, vR a2), (3, vR a3), (4, vI x4), (5, vI x5), (6, vR a6), (10, vR a10), (12, vI x12)] ⟨rfl, rfl, rfl, rfl, rfl, rfl, rfl, rfl, rfl, trivial⟩ (kr v G' h))) kx
theorem blJ7_putVal_200_k19 {w : WD} {j : JB} {r : Nat} {G : GH} {a0 : Nat} {x1 : Int32} {a2 : Option Nat} {a3 : Option Nat} {x4 : Int32} {x5 : Int32} {a6 : Option Nat} {a10 : Option Nat} {a11 : Option Nat} {x12 : Int32} {o1 : Nat} {d' b' : Nat} {P : Option WV → GH → Prop} {PX : String → Nat → GH → Prop}
    (e1 : a2 = some o1)
    (hkr : hp_kd G o1 = 19)
    (hC : wk_C w mJ28_equals d' b' [vR (some o1), vR a11] G P PX)
    (hdp : d' + 1 ≤ j.1)
    (hb : b' ≤ r)
    (kr : ∀ v G', P v G' → wk_V w mJ7_putVal j 206 [(0, vR (some a0)), (1, vI x1), (2, vR a2), (3, vR a3), (4, vI x4), (5, vI x5), (6, vR a6), (10, vR a10), (12, vI x12)] (v.toList ++ []) G' (r - b'))
    (kx : ∀ E q G', PX E q G' → wk_T w mJ7_putVal j 203 [(0, vR (some a0)), (1, vI x1), (2, vR a2), (3, vR a3), (4, vI x4), (5, vI x5), (6, vR a6), (10, vR a10), (11, vR a11), (12, vI x12)] G' (r - b') E q)
    : wk_V w mJ7_putVal j 200 [(0, vR (some a0)), (1, vI x1), (2, vR a2), (3, vR a3), (4, vI x4), (5, vI x5), (6, vR a6), (10, vR a10), (11, vR a11), (12, vI x12)] [] G r := by
  refine wk_aload_n 2 dJ7_putVal_200 rfl rfl ?_
  refine wk_aload dJ7_putVal_201 rfl ?_
  refine wk_eAt 1 e1 rfl ?_
  exact wk_callU (n := 1) (x := ⟨"java/lang/Object", "equals", "(Ljava/lang/Object;)Z"⟩) "java/lang/Object" hC rfl (Or.inl (by decide +kernel)) q1047 q1049 q1048 (by show Cond.selects (hp_C (hp_kd G o1)) _ _ ∈ lw_all; rw [hkr]; exact q1071) q3225 q1081 (by decide +kernel) (Nat.le_of_ble_eq_true rfl) ⟨by show hp_kd G o1 ≠ 0; rw [hkr]; decide, by show hp_kd G o1 < 28; rw [hkr]; decide⟩ rfl rfl (Nat.le_of_ble_eq_true rfl) hdp hb dJ7_putVal_203 (fun v G' h => (wk_sub [(0, vR (some a0)), (1, vI x1), (2, vR a2), (3, vR a3), (4, vI x4), (5, vI x5), (6, vR a6), (10, vR a10), (12, vI x12)] ⟨rfl, rfl, rfl, rfl, rfl, rfl, rfl, rfl, rfl, trivial⟩ (kr v G' h))) kx
theorem blJ7_putVal_200_k3 {w : WD} {j : JB} {r : Nat} {G : GH} {a0 : Nat} {x1 : Int32} {a2 : Option Nat} {a3 : Option Nat} {x4 : Int32} {x5 : Int32} {a6 : Option Nat} {a10 : Option Nat} {a11 : Option Nat} {x12 : Int32} {o1 : Nat} {d' b' : Nat} {P : Option WV → GH → Prop} {PX : String → Nat → GH → Prop}
    (e1 : a2 = some o1)
    (hkr : hp_kd G o1 = 3)
    (hC : wk_C w mJ28_equals d' b' [vR (some o1), vR a11] G P PX)
    (hdp : d' + 1 ≤ j.1)
    (hb : b' ≤ r)
    (kr : ∀ v G', P v G' → wk_V w mJ7_putVal j 206 [(0, vR (some a0)), (1, vI x1), (2, vR a2), (3, vR a3), (4, vI x4), (5, vI x5), (6, vR a6), (10, vR a10), (12, vI x12)] (v.toList ++ []) G' (r - b'))
    (kx : ∀ E q G', PX E q G' → wk_T w mJ7_putVal j 203 [(0, vR (some a0)), (1, vI x1), (2, vR a2), (3, vR a3), (4, vI x4), (5, vI x5), (6, vR a6), (10, vR a10), (11, vR a11), (12, vI x12)] G' (r - b') E q)
    : wk_V w mJ7_putVal j 200 [(0, vR (some a0)), (1, vI x1), (2, vR a2), (3, vR a3), (4, vI x4), (5, vI x5), (6, vR a6), (10, vR a10), (11, vR a11), (12, vI x12)] [] G r := by
  refine wk_aload_n 2 dJ7_putVal_200 rfl rfl ?_
  refine wk_aload dJ7_putVal_201 rfl ?_
  refine wk_eAt 1 e1 rfl ?_
  exact wk_callU (n := 1) (x := ⟨"java/lang/Object", "equals", "(Ljava/lang/Object;)Z"⟩) "java/lang/Object" hC rfl (Or.inl (by decide +kernel)) q1047 q1049 q1048 (by show Cond.selects (hp_C (hp_kd G o1)) _ _ ∈ lw_all; rw [hkr]; exact q1072) q3225 q1081 (by decide +kernel) (Nat.le_of_ble_eq_true rfl) ⟨by show hp_kd G o1 ≠ 0; rw [hkr]; decide, by show hp_kd G o1 < 28; rw [hkr]; decide⟩ rfl rfl (Nat.le_of_ble_eq_true rfl) hdp hb dJ7_putVal_203 (fun v G' h => (wk_sub [(0, vR (some a0)), (1, vI x1), (2, vR a2), (3, vR a3), (4, vI x4), (5, vI x5), (6, vR a6), (10, vR a10), (12, vI x12)] ⟨rfl, rfl, rfl, rfl, rfl, rfl, rfl, rfl, rfl, trivial⟩ (kr v G' h))) kx
theorem blJ7_putVal_200_k1 {w : WD} {j : JB} {r : Nat} {G : GH} {a0 : Nat} {x1 : Int32} {a2 : Option Nat} {a3 : Option Nat} {x4 : Int32} {x5 : Int32} {a6 : Option Nat} {a10 : Option Nat} {a11 : Option Nat} {x12 : Int32} {o1 : Nat} {d' b' : Nat} {P : Option WV → GH → Prop} {PX : String → Nat → GH → Prop}
    (e1 : a2 = some o1)
    (hkr : hp_kd G o1 = 1)
    (hC : wk_C w mJ28_equals d' b' [vR (some o1), vR a11] G P PX)
    (hdp : d' + 1 ≤ j.1)
    (hb : b' ≤ r)
    (kr : ∀ v G', P v G' → wk_V w mJ7_putVal j 206 [(0, vR (some a0)), (1, vI x1), (2, vR a2), (3, vR a3), (4, vI x4), (5, vI x5), (6, vR a6), (10, vR a10), (12, vI x12)] (v.toList ++ []) G' (r - b'))
    (kx : ∀ E q G', PX E q G' → wk_T w mJ7_putVal j 203 [(0, vR (some a0)), (1, vI x1), (2, vR a2), (3, vR a3), (4, vI x4), (5, vI x5), (6, vR a6), (10, vR a10), (11, vR a11), (12, vI x12)] G' (r - b') E q)
    : wk_V w mJ7_putVal j 200 [(0, vR (some a0)), (1, vI x1), (2, vR a2), (3, vR a3), (4, vI x4), (5, vI x5), (6, vR a6), (10, vR a10), (11, vR a11), (12, vI x12)] [] G r := by
  refine wk_aload_n 2 dJ7_putVal_200 rfl rfl ?_
  refine wk_aload dJ7_putVal_201 rfl ?_
  refine wk_eAt 1 e1 rfl ?_
  exact wk_callU (n := 1) (x := ⟨"java/lang/Object", "equals", "(Ljava/lang/Object;)Z"⟩) "java/lang/Object" hC rfl (Or.inl (by decide +kernel)) q1047 q1049 q1048 (by show Cond.selects (hp_C (hp_kd G o1)) _ _ ∈ lw_all; rw [hkr]; exact q1073) q3225 q1081 (by decide +kernel) (Nat.le_of_ble_eq_true rfl) ⟨by show hp_kd G o1 ≠ 0; rw [hkr]; decide, by show hp_kd G o1 < 28; rw [hkr]; decide⟩ rfl rfl (Nat.le_of_ble_eq_true rfl) hdp hb dJ7_putVal_203 (fun v G' h => (wk_sub [(0, vR (some a0)), (1, vI x1), (2, vR a2), (3, vR a3), (4, vI x4), (5, vI x5), (6, vR a6), (10, vR a10), (12, vI x12)] ⟨rfl, rfl, rfl, rfl, rfl, rfl, rfl, rfl, rfl, trivial⟩ (kr v G' h))) kx
theorem blJ7_putVal_200_k4 {w : WD} {j : JB} {r : Nat} {G : GH} {a0 : Nat} {x1 : Int32} {a2 : Option Nat} {a3 : Option Nat} {x4 : Int32} {x5 : Int32} {a6 : Option Nat} {a10 : Option Nat} {a11 : Option Nat} {x12 : Int32} {o1 : Nat} {d' b' : Nat} {P : Option WV → GH → Prop} {PX : String → Nat → GH → Prop}
    (e1 : a2 = some o1)
    (hkr : hp_kd G o1 = 4)
    (hC : wk_C w mJ28_equals d' b' [vR (some o1), vR a11] G P PX)
    (hdp : d' + 1 ≤ j.1)
    (hb : b' ≤ r)
    (kr : ∀ v G', P v G' → wk_V w mJ7_putVal j 206 [(0, vR (some a0)), (1, vI x1), (2, vR a2), (3, vR a3), (4, vI x4), (5, vI x5), (6, vR a6), (10, vR a10), (12, vI x12)] (v.toList ++ []) G' (r - b'))
    (kx : ∀ E q G', PX E q G' → wk_T w mJ7_putVal j 203 [(0, vR (some a0)), (1, vI x1), (2, vR a2), (3, vR a3), (4, vI x4), (5, vI x5), (6, vR a6), (10, vR a10), (11, vR a11), (12, vI x12)] G' (r - b') E q)
    : wk_V w mJ7_putVal j 200 [(0, vR (some a0)), (1, vI x1), (2, vR a2), (3, vR a3), (4, vI x4), (5, vI x5), (6, vR a6), (10, vR a10), (11, vR a11), (12, vI x12)] [] G r := by
  refine wk_aload_n 2 dJ7_putVal_200 rfl rfl ?_
  refine wk_aload dJ7_putVal_201 rfl ?_
  refine wk_eAt 1 e1 rfl ?_
  exact wk_callU (n := 1) (x := ⟨"java/lang/Object", "equals", "(Ljava/lang/Object;)Z"⟩) "java/lang/Object" hC rfl (Or.inl (by decide +kernel)) q1047 q1049 q1048 (by show Cond.selects (hp_C (hp_kd G o1)) _ _ ∈ lw_all; rw [hkr]; exact q1074) q3225 q1081 (by decide +kernel) (Nat.le_of_ble_eq_true rfl) ⟨by show hp_kd G o1 ≠ 0; rw [hkr]; decide, by show hp_kd G o1 < 28; rw [hkr]; decide⟩ rfl rfl (Nat.le_of_ble_eq_true rfl) hdp hb dJ7_putVal_203 (fun v G' h => (wk_sub [(0, vR (some a0)), (1, vI x1), (2, vR a2), (3, vR a3), (4, vI x4), (5, vI x5), (6, vR a6), (10, vR a10), (12, vI x12)] ⟨rfl, rfl, rfl, rfl, rfl, rfl, rfl, rfl, rfl, trivial⟩ (kr v G' h))) kx
theorem blJ7_putVal_200_k26 {w : WD} {j : JB} {r : Nat} {G : GH} {a0 : Nat} {x1 : Int32} {a2 : Option Nat} {a3 : Option Nat} {x4 : Int32} {x5 : Int32} {a6 : Option Nat} {a10 : Option Nat} {a11 : Option Nat} {x12 : Int32} {o1 : Nat} {d' b' : Nat} {P : Option WV → GH → Prop} {PX : String → Nat → GH → Prop}
    (e1 : a2 = some o1)
    (hkr : hp_kd G o1 = 26)
    (hC : wk_C w mJ13_equals d' b' [vR (some o1), vR a11] G P PX)
    (hdp : d' + 1 ≤ j.1)
    (hb : b' ≤ r)
    (kr : ∀ v G', P v G' → wk_V w mJ7_putVal j 206 [(0, vR (some a0)), (1, vI x1), (2, vR a2), (3, vR a3), (4, vI x4), (5, vI x5), (6, vR a6), (10, vR a10), (12, vI x12)] (v.toList ++ []) G' (r - b'))
    (kx : ∀ E q G', PX E q G' → wk_T w mJ7_putVal j 203 [(0, vR (some a0)), (1, vI x1), (2, vR a2), (3, vR a3), (4, vI x4), (5, vI x5), (6, vR a6), (10, vR a10), (11, vR a11), (12, vI x12)] G' (r - b') E q)
    : wk_V w mJ7_putVal j 200 [(0, vR (some a0)), (1, vI x1), (2, vR a2), (3, vR a3), (4, vI x4), (5, vI x5), (6, vR a6), (10, vR a10), (11, vR a11), (12, vI x12)] [] G r := by
  refine wk_aload_n 2 dJ7_putVal_200 rfl rfl ?_
  refine wk_aload dJ7_putVal_201 rfl ?_
  refine wk_eAt 1 e1 rfl ?_
  exact wk_callU (n := 1) (x := ⟨"java/lang/Object", "equals", "(Ljava/lang/Object;)Z"⟩) "java/lang/Object" hC rfl (Or.inl (by decide +kernel)) q1047 q1049 q896 (by show Cond.selects (hp_C (hp_kd G o1)) _ _ ∈ lw_all; rw [hkr]; exact q1077) q129 q898 (by decide +kernel) (Nat.le_of_ble_eq_true rfl) ⟨by show hp_kd G o1 ≠ 0; rw [hkr]; decide, by show hp_kd G o1 < 28; rw [hkr]; decide⟩ rfl rfl (Nat.le_of_ble_eq_true rfl) hdp hb dJ7_putVal_203 (fun v G' h => (wk_sub [(0, vR (some a0)), (1, vI x1), (2, vR a2), (3, vR a3), (4, vI x4), (5, vI x5), (6, vR a6), (10, vR a10), (12, vI x12)] ⟨rfl, rfl, rfl, rfl, rfl, rfl, rfl, rfl, rfl, trivial⟩ (kr v G' h))) kx
theorem blJ7_putVal_200_k27 {w : WD} {j : JB} {r : Nat} {G : GH} {a0 : Nat} {x1 : Int32} {a2 : Option Nat} {a3 : Option Nat} {x4 : Int32} {x5 : Int32} {a6 : Option Nat} {a10 : Option Nat} {a11 : Option Nat} {x12 : Int32} {o1 : Nat} {d' b' : Nat} {P : Option WV → GH → Prop} {PX : String → Nat → GH → Prop}
    (e1 : a2 = some o1)
    (hkr : hp_kd G o1 = 27)
    (hC : wk_C w mJ28_equals d' b' [vR (some o1), vR a11] G P PX)
    (hdp : d' + 1 ≤ j.1)
    (hb : b' ≤ r)
    (kr : ∀ v G', P v G' → wk_V w mJ7_putVal j 206 [(0, vR (some a0)), (1, vI x1), (2, vR a2), (3, vR a3), (4, vI x4), (5, vI x5), (6, vR a6), (10, vR a10), (12, vI x12)] (v.toList ++ []) G' (r - b'))
    (kx : ∀ E q G', PX E q G' → wk_T w mJ7_putVal j 203 [(0, vR (some a0)), (1, vI x1), (2, vR a2), (3, vR a3), (4, vI x4), (5, vI x5), (6, vR a6), (10, vR a10), (11, vR a11), (12, vI x12)] G' (r - b') E q)
    : wk_V w mJ7_putVal j 200 [(0, vR (some a0)), (1, vI x1), (2, vR a2), (3, vR a3), (4, vI x4), (5, vI x5), (6, vR a6), (10, vR a10), (11, vR a11), (12, vI x12)] [] G r := by
  refine wk_aload_n 2 dJ7_putVal_200 rfl rfl ?_
  refine wk_aload dJ7_putVal_201 rfl ?_
  refine wk_eAt 1 e1 rfl ?_
  exact wk_callU (n := 1) (x := ⟨"java/lang/Object", "equals", "(Ljava/lang/Object;)Z"⟩) "java/lang/Object" hC rfl (Or.inl (by decide +kernel)) q1047 q1049 q1048 (by show Cond.selects (hp_C (hp_kd G o1)) _ _ ∈ lw_all; rw [hkr]; exact q1078) q3225 q1081 (by decide +kernel) (Nat.le_of_ble_eq_true rfl) ⟨by show hp_kd G o1 ≠ 0; rw [hkr]; decide, by show hp_kd G o1 < 28; rw [hkr]; decide⟩ rfl rfl (Nat.le_of_ble_eq_true rfl) hdp hb dJ7_putVal_203 (fun v G' h => (wk_sub [(0, vR (some a0)), (1, vI x1), (2, vR a2), (3, vR a3), (4, vI x4), (5, vI x5), (6, vR a6), (10, vR a10), (12, vI x12)] ⟨rfl, rfl, rfl, rfl, rfl, rfl, rfl, rfl, rfl, trivial⟩ (kr v G' h))) kx
theorem blJ7_putVal_206 {w : WD} {j : JB} {r : Nat} {G : GH} {a0 : Nat} {x1 : Int32} {a2 : Option Nat} {a3 : Option Nat} {x4 : Int32} {x5 : Int32} {a6 : Option Nat} {a10 : Option Nat} {x12 : Int32} {s0 : Int32}
    (kt : s0 = 0 → wk_V w mJ7_putVal j 212 [(0, vR (some a0)), (1, vI x1), (2, vR a2), (3, vR a3), (4, vI x4), (5, vI x5), (6, vR a6), (10, vR a10), (12, vI x12)] [] G r)
    (kf : ¬ (s0 = 0) → wk_V w mJ7_putVal j 209 [(0, vR (some a0)), (3, vR a3), (4, vI x4), (5, vI x5), (10, vR a10)] [] G r)
    : wk_V w mJ7_putVal j 206 [(0, vR (some a0)), (1, vI x1), (2, vR a2), (3, vR a3), (4, vI x4), (5, vI x5), (6, vR a6), (10, vR a10), (12, vI x12)] [vI s0] G r := by
  exact wk_if_eq 212 dJ7_putVal_206 (by decide) (fun h => (kt h)) (fun h => (wk_sub [(0, vR (some a0)), (3, vR a3), (4, vI x4), (5, vI x5), (10, vR a10)] ⟨rfl, rfl, rfl, rfl, rfl, trivial⟩ (kf h)))
theorem blJ7_putVal_209 {w : WD} {j : JB} {r : Nat} {G : GH} {a0 : Nat} {a3 : Option Nat} {x4 : Int32} {x5 : Int32} {a10 : Option Nat}
    (k : wk_V w mJ7_putVal j 222 [(0, vR (some a0)), (3, vR a3), (4, vI x4), (5, vI x5), (10, vR a10)] [] G r)
    : wk_V w mJ7_putVal j 209 [(0, vR (some a0)), (3, vR a3), (4, vI x4), (5, vI x5), (10, vR a10)] [] G r := by
  exact wk_goto 222 dJ7_putVal_209 (by decide) k
theorem blJ7_putVal_212 {w : WD} {j : JB} {r : Nat} {G : GH} {a0 : Nat} {x1 : Int32} {a2 : Option Nat} {a3 : Option Nat} {x4 : Int32} {x5 : Int32} {a6 : Option Nat} {a10 : Option Nat} {x12 : Int32}
    (k : wk_V w mJ7_putVal j 134 [(0, vR (some a0)), (1, vI x1), (2, vR a2), (3, vR a3), (4, vI x4), (5, vI x5), (6, vR a6), (7, vR a10), (12, vI (x12 + (1 : Int32)))] [] G r)
    : wk_V w mJ7_putVal j 212 [(0, vR (some a0)), (1, vI x1), (2, vR a2), (3, vR a3), (4, vI x4), (5, vI x5), (6, vR a6), (10, vR a10), (12, vI x12)] [] G r := by
  refine wk_aload dJ7_putVal_212 rfl ?_
  refine wk_astore dJ7_putVal_214 (Nat.le_of_ble_eq_true rfl) ?_
  refine wk_iincC (1 : Int32) dJ7_putVal_216 rfl (by decide) (Nat.le_of_ble_eq_true rfl) ?_
  exact wk_goto 134 dJ7_putVal_219 (by decide) (wk_sub [(0, vR (some a0)), (1, vI x1), (2, vR a2), (3, vR a3), (4, vI x4), (5, vI x5), (6, vR a6), (7, vR a10), (12, vI (x12 + (1 : Int32)))] ⟨rfl, rfl, rfl, rfl, rfl, rfl, rfl, rfl, rfl, trivial⟩ k)
theorem blJ7_putVal_222 {w : WD} {j : JB} {r : Nat} {G : GH} {a0 : Nat} {a3 : Option Nat} {x4 : Int32} {x5 : Int32} {a10 : Option Nat}
    (kt : a10 = none → wk_V w mJ7_putVal j 259 [(0, vR (some a0)), (5, vI x5)] [] G r)
    (kf : ∀ o9, a10 = some o9 → wk_V w mJ7_putVal j 227 [(0, vR (some a0)), (3, vR a3), (4, vI x4), (10, vR a10)] [] G r)
    : wk_V w mJ7_putVal j 222 [(0, vR (some a0)), (3, vR a3), (4, vI x4), (5, vI x5), (10, vR a10)] [] G r := by
  refine wk_aload dJ7_putVal_222 rfl ?_
  exact wk_ifnull 259 dJ7_putVal_224 (by decide) (fun h => (wk_sub [(0, vR (some a0)), (5, vI x5)] ⟨rfl, rfl, trivial⟩ (kt h))) (fun o9 h => (wk_sub [(0, vR (some a0)), (3, vR a3), (4, vI x4), (10, vR a10)] ⟨rfl, rfl, rfl, rfl, trivial⟩ (kf o9 h)))
theorem blJ7_putVal_227 {w : WD} {j : JB} {r : Nat} {G : GH} {a0 : Nat} {a3 : Option Nat} {x4 : Int32} {a10 : Option Nat} {o1 : Nat}
    (e1 : a10 = some o1)
    (hk2 : 24 ≤ hp_kd G o1 ∧ hp_kd G o1 ≤ 25)
    (kt : x4 = 0 → wk_V w mJ7_putVal j 244 [(0, vR (some a0)), (3, vR a3), (10, vR a10), (12, vR (hp_r G o1 2))] [] G r)
    (kf : ¬ (x4 = 0) → wk_V w mJ7_putVal j 239 [(0, vR (some a0)), (3, vR a3), (10, vR a10), (12, vR (hp_r G o1 2))] [] G r)
    : wk_V w mJ7_putVal j 227 [(0, vR (some a0)), (3, vR a3), (4, vI x4), (10, vR a10)] [] G r := by
  refine wk_aload dJ7_putVal_227 rfl ?_
  refine wk_e e1 ?_
  refine wk_getR (hp_kd G o1) 2 (flJ7_162 _ hk2.1 hk2.2) (flJ7_162_t _ hk2.1 hk2.2).1 rfl dJ7_putVal_229 ?_
  refine wk_astore dJ7_putVal_232 (Nat.le_of_ble_eq_true rfl) ?_
  refine wk_iload dJ7_putVal_234 rfl ?_
  exact wk_if_eq 244 dJ7_putVal_236 (by decide) (fun h => (wk_sub [(0, vR (some a0)), (3, vR a3), (10, vR a10), (12, vR (hp_r G o1 2))] ⟨rfl, rfl, rfl, rfl, trivial⟩ (kt h))) (fun h => (wk_sub [(0, vR (some a0)), (3, vR a3), (10, vR a10), (12, vR (hp_r G o1 2))] ⟨rfl, rfl, rfl, rfl, trivial⟩ (kf h)))
theorem blJ7_putVal_239 {w : WD} {j : JB} {r : Nat} {G : GH} {a0 : Nat} {a3 : Option Nat} {a10 : Option Nat} {a12 : Option Nat}
    (kt : ∀ o9, a12 = some o9 → wk_V w mJ7_putVal j 250 [(0, vR (some a0)), (10, vR a10), (12, vR a12)] [] G r)
    (kf : a12 = none → wk_V w mJ7_putVal j 244 [(0, vR (some a0)), (3, vR a3), (10, vR a10), (12, vR a12)] [] G r)
    : wk_V w mJ7_putVal j 239 [(0, vR (some a0)), (3, vR a3), (10, vR a10), (12, vR a12)] [] G r := by
  refine wk_aload dJ7_putVal_239 rfl ?_
  exact wk_ifnonnull 250 dJ7_putVal_241 (by decide) (fun o9 h => (wk_sub [(0, vR (some a0)), (10, vR a10), (12, vR a12)] ⟨rfl, rfl, rfl, trivial⟩ (kt o9 h))) (fun h => (kf h))
theorem blJ7_putVal_244 {w : WD} {j : JB} {r : Nat} {G : GH} {a0 : Nat} {a3 : Option Nat} {a10 : Option Nat} {a12 : Option Nat} {o1 : Nat}
    (e1 : a10 = some o1)
    (hk2 : 24 ≤ hp_kd G o1 ∧ hp_kd G o1 ≤ 25)
    (hA3 : hp_A w o1)
    (k : wk_V w mJ7_putVal j 250 [(0, vR (some a0)), (10, vR a10), (12, vR a12)] [] (hp_sR G o1 2 a3) r)
    : wk_V w mJ7_putVal j 244 [(0, vR (some a0)), (3, vR a3), (10, vR a10), (12, vR a12)] [] G r := by
  refine wk_aload dJ7_putVal_244 rfl ?_
  refine wk_aload_n 3 dJ7_putVal_246 rfl rfl ?_
  refine wk_e2 e1 ?_
  refine wk_putR (hp_kd G o1) 2 (flJ7_162 _ hk2.1 hk2.2) (flJ7_162_t _ hk2.1 hk2.2).1 (Or.inl (flJ7_162_t _ hk2.1 hk2.2).2.1) rfl hA3 dJ7_putVal_247 ?_
  exact (wk_sub [(0, vR (some a0)), (10, vR a10), (12, vR a12)] ⟨rfl, rfl, rfl, trivial⟩ k)
theorem blJ7_putVal_250 {w : WD} {j : JB} {r : Nat} {G : GH} {a0 : Nat} {a10 : Option Nat} {a12 : Option Nat} {d' b' : Nat} {P : Option WV → GH → Prop} {PX : String → Nat → GH → Prop}
    (hkr : hp_kd G a0 = 23)
    (hC : wk_C w mJ7_afterNodeAccess d' b' [vR (some a0), vR a10] G P PX)
    (hdp : d' + 1 ≤ j.1)
    (hb : b' ≤ r)
    (kr : ∀ v G', P v G' → wk_V w mJ7_putVal j 256 [(12, vR a12)] (v.toList ++ []) G' (r - b'))
    (kx : ∀ E q G', PX E q G' → wk_T w mJ7_putVal j 253 [(0, vR (some a0)), (10, vR a10), (12, vR a12)] G' (r - b') E q)
    : wk_V w mJ7_putVal j 250 [(0, vR (some a0)), (10, vR a10), (12, vR a12)] [] G r := by
  refine wk_aload_n 0 dJ7_putVal_250 rfl rfl ?_
  refine wk_aload dJ7_putVal_251 rfl ?_
  exact wk_callV hC rfl q1693 q1694 q1695 q119 q1696 mdJ7_afterNodeAccess (Nat.le_of_ble_eq_true rfl) ⟨by show hp_kd G a0 ≠ 0; rw [hkr]; decide, by show hp_kd G a0 < 28; rw [hkr]; decide, by show hp_C (hp_kd G a0) = _; rw [hkr]; rfl⟩ rfl rfl (Nat.le_of_ble_eq_true rfl) hdp hb dJ7_putVal_253 (fun v G' h => (wk_sub [(12, vR a12)] ⟨rfl, trivial⟩ (kr v G' h))) kx
theorem blJ7_putVal_256 {w : WD} {j : JB} {r : Nat} {G : GH} {a12 : Option Nat}
    (hP : j.2.2.1 (some (vR a12)) G)
    : wk_V w mJ7_putVal j 256 [(12, vR a12)] [] G r := by
  refine wk_aload dJ7_putVal_256 rfl ?_
  exact wk_areturn rfl (Or.inl ⟨_, rfl⟩) dJ7_putVal_258 hP
theorem blJ7_putVal_259 {w : WD} {j : JB} {r : Nat} {G : GH} {a0 : Nat} {x5 : Int32}
    (hk1 : hp_kd G a0 = 23)
    (hA3 : hp_A w a0)
    (k : wk_V w mJ7_putVal j 280 [(0, vR (some a0)), (5, vI x5)] [vI ((hp_i (hp_sI G a0 5 ((hp_i G a0 5) + (1 : Int32))) a0 4) + (1 : Int32))] (hp_sI (hp_sI G a0 5 ((hp_i G a0 5) + (1 : Int32))) a0 4 ((hp_i (hp_sI G a0 5 ((hp_i G a0 5) + (1 : Int32))) a0 4) + (1 : Int32))) r)
    : wk_V w mJ7_putVal j 259 [(0, vR (some a0)), (5, vI x5)] [] G r := by
  refine wk_aload_n 0 dJ7_putVal_259 rfl rfl ?_
  refine wk_dup dJ7_putVal_260 rfl ?_
  refine wk_getI 23 5 flJ7_202 rfl hk1 dJ7_putVal_261 ?_
  refine wk_iconst (1 : Int32) dJ7_putVal_264 (by decide) ?_
  refine wk_iadd dJ7_putVal_265 ?_
  refine wk_putI 23 5 flJ7_202 rfl (Or.inl rfl) hk1 hA3 ⟨rfl, rfl⟩ dJ7_putVal_266 ?_
  refine wk_aload_n 0 dJ7_putVal_269 rfl rfl ?_
  refine wk_dup dJ7_putVal_270 rfl ?_
  refine wk_getI 23 4 flJ7_156 rfl hk1 dJ7_putVal_271 ?_
  refine wk_iconst (1 : Int32) dJ7_putVal_274 (by decide) ?_
  refine wk_iadd dJ7_putVal_275 ?_
  refine wk_dup_x1 dJ7_putVal_276 rfl rfl ?_
  refine wk_putI 23 4 flJ7_156 rfl (Or.inl rfl) hk1 hA3 ⟨rfl, rfl⟩ dJ7_putVal_277 ?_
  exact k
theorem blJ7_putVal_280 {w : WD} {j : JB} {r : Nat} {G : GH} {a0 : Nat} {x5 : Int32} {s0 : Int32}
    (hk1 : hp_kd G a0 = 23)
    (kt : s0 ≤ (hp_i G a0 6) → wk_V w mJ7_putVal j 292 [(0, vR (some a0)), (5, vI x5)] [] G r)
    (kf : ¬ (s0 ≤ (hp_i G a0 6)) → wk_V w mJ7_putVal j 287 [(0, vR (some a0)), (5, vI x5)] [] G r)
    : wk_V w mJ7_putVal j 280 [(0, vR (some a0)), (5, vI x5)] [vI s0] G r := by
  refine wk_aload_n 0 dJ7_putVal_280 rfl rfl ?_
  refine wk_getI 23 6 flJ7_88 rfl hk1 dJ7_putVal_281 ?_
  exact wk_icmp_le 292 dJ7_putVal_284 (by decide) (fun h => (kt h)) (fun h => (kf h))
theorem blJ7_putVal_287 {w : WD} {j : JB} {r : Nat} {G : GH} {a0 : Nat} {x5 : Int32} {d' b' : Nat} {P : Option WV → GH → Prop} {PX : String → Nat → GH → Prop}
    (hkr : hp_kd G a0 = 23)
    (hC : wk_C w mJ7_resize d' b' [vR (some a0)] G P PX)
    (hdp : d' + 1 ≤ j.1)
    (hb : b' ≤ r)
    (kr : ∀ v G', P v G' → wk_V w mJ7_putVal j 291 [(0, vR (some a0)), (5, vI x5)] (v.toList ++ []) G' (r - b'))
    (kx : ∀ E q G', PX E q G' → wk_T w mJ7_putVal j 288 [(0, vR (some a0)), (5, vI x5)] G' (r - b') E q)
    : wk_V w mJ7_putVal j 287 [(0, vR (some a0)), (5, vI x5)] [] G r := by
  refine wk_aload_n 0 dJ7_putVal_287 rfl rfl ?_
  exact wk_callV hC rfl q1569 q1570 q1571 q119 q1572 mdJ7_resize (Nat.le_of_ble_eq_true rfl) ⟨by show hp_kd G a0 ≠ 0; rw [hkr]; decide, by show hp_kd G a0 < 28; rw [hkr]; decide, by show hp_C (hp_kd G a0) = _; rw [hkr]; rfl⟩ rfl rfl (Nat.le_of_ble_eq_true rfl) hdp hb dJ7_putVal_288 kr kx
theorem blJ7_putVal_291 {w : WD} {j : JB} {r : Nat} {G : GH} {a0 : Nat} {x5 : Int32} {sa0 : Option Nat}
    (k : wk_V w mJ7_putVal j 292 [(0, vR (some a0)), (5, vI x5)] [] G r)
    : wk_V w mJ7_putVal j 291 [(0, vR (some a0)), (5, vI x5)] [vR sa0] G r := by
  refine wk_pop dJ7_putVal_291 rfl ?_
  exact k
theorem blJ7_putVal_292 {w : WD} {j : JB} {r : Nat} {G : GH} {a0 : Nat} {x5 : Int32} {d' b' : Nat} {P : Option WV → GH → Prop} {PX : String → Nat → GH → Prop}
    (hkr : hp_kd G a0 = 23)
    (hC : wk_C w mJ7_afterNodeInsertion d' b' [vR (some a0), vI x5] G P PX)
    (hdp : d' + 1 ≤ j.1)
    (hb : b' ≤ r)
    (kr : ∀ v G', P v G' → wk_V w mJ7_putVal j 298 [] (v.toList ++ []) G' (r - b'))
    (kx : ∀ E q G', PX E q G' → wk_T w mJ7_putVal j 295 [(0, vR (some a0)), (5, vI x5)] G' (r - b') E q)
    : wk_V w mJ7_putVal j 292 [(0, vR (some a0)), (5, vI x5)] [] G r := by
  refine wk_aload_n 0 dJ7_putVal_292 rfl rfl ?_
  refine wk_iload dJ7_putVal_293 rfl ?_
  exact wk_callV hC rfl q1697 q1698 q1699 q119 q1700 mdJ7_afterNodeInsertion (Nat.le_of_ble_eq_true rfl) ⟨by show hp_kd G a0 ≠ 0; rw [hkr]; decide, by show hp_kd G a0 < 28; rw [hkr]; decide, by show hp_C (hp_kd G a0) = _; rw [hkr]; rfl⟩ rfl rfl (Nat.le_of_ble_eq_true rfl) hdp hb dJ7_putVal_295 (fun v G' h => (wk_sub [] trivial (kr v G' h))) kx
theorem blJ7_putVal_298 {w : WD} {j : JB} {r : Nat} {G : GH}
    (hP : j.2.2.1 (some (vR none)) G)
    : wk_V w mJ7_putVal j 298 [] [] G r := by
  refine wk_null dJ7_putVal_298 ?_
  exact wk_areturn rfl (Or.inl ⟨_, rfl⟩) dJ7_putVal_299 hP
/-! java/util/HashMap.replacementNode(Ljava/util/HashMap$Node;Ljava/util/HashMap$Node;)Ljava/util/HashMap$Node; -/
theorem blJ7_replacementNode_0 {w : WD} {j : JB} {r : Nat} {G : GH} {a1 : Option Nat} {a2 : Option Nat}
    (hr : 1 ≤ r)
    (k : ∀ q, hp_kd G q = 0 → hp_A w q → wk_V w mJ7_replacementNode j 3 [(1, vR a1), (2, vR a2)] [vR (some q)] (hp_nw G q 24 0) (r - 1))
    : wk_V w mJ7_replacementNode j 0 [(1, vR a1), (2, vR a2)] [] G r := by
  refine wk_new 24 4 ⟨by decide, by decide, q1576, q1591, q147, rfl⟩ hr dJ7_replacementNode_0 (fun q h1 h2 => ?_)
  exact (k q h1 h2)
theorem blJ7_replacementNode_3 {w : WD} {j : JB} {r : Nat} {G : GH} {a1 : Option Nat} {a2 : Option Nat} {sa0 : Option Nat} {o1 : Nat} {o5 : Nat} {d' b' : Nat} {P : Option WV → GH → Prop} {PX : String → Nat → GH → Prop}
    (e1 : a1 = some o1)
    (hk2 : 24 ≤ hp_kd G o1 ∧ hp_kd G o1 ≤ 25)
    (e5 : sa0 = some o5)
    (hC : wk_C w mJ24_init d' b' [vR (some o5), vI (hp_i G o1 0), vR (hp_r G o1 1), vR (hp_r G o1 2), vR a2] G P PX)
    (hdp : d' + 1 ≤ j.1)
    (hb : b' ≤ r)
    (kr : ∀ v G', P v G' → wk_V w mJ7_replacementNode j 20 [] (v.toList ++ [vR sa0]) G' (r - b'))
    (kx : ∀ E q G', PX E q G' → wk_T w mJ7_replacementNode j 17 [(1, vR a1), (2, vR a2)] G' (r - b') E q)
    : wk_V w mJ7_replacementNode j 3 [(1, vR a1), (2, vR a2)] [vR sa0] G r := by
  refine wk_dup dJ7_replacementNode_3 rfl ?_
  refine wk_aload_n 1 dJ7_replacementNode_4 rfl rfl ?_
  refine wk_e e1 ?_
  refine wk_getI (hp_kd G o1) 0 (flJ7_168 _ hk2.1 hk2.2) (flJ7_168_t _ hk2.1 hk2.2).1 rfl dJ7_replacementNode_5 ?_
  refine wk_aload_n 1 dJ7_replacementNode_8 rfl rfl ?_
  refine wk_e e1 ?_
  refine wk_getR (hp_kd G o1) 1 (flJ7_170 _ hk2.1 hk2.2) (flJ7_170_t _ hk2.1 hk2.2).1 rfl dJ7_replacementNode_9 ?_
  refine wk_aload_n 1 dJ7_replacementNode_12 rfl rfl ?_
  refine wk_e e1 ?_
  refine wk_getR (hp_kd G o1) 2 (flJ7_162 _ hk2.1 hk2.2) (flJ7_162_t _ hk2.1 hk2.2).1 rfl dJ7_replacementNode_13 ?_
  refine wk_aload_n 2 dJ7_replacementNode_16 rfl rfl ?_
  refine wk_eAt 4 e5 rfl ?_
  exact wk_callI hC rfl rfl rfl q1592 q1593 q147 q1594 mdJ24_init (Nat.le_of_ble_eq_true rfl) rfl rfl (Nat.le_of_ble_eq_true rfl) hdp hb dJ7_replacementNode_17 (fun v G' h => (wk_sub [] trivial (kr v G' h))) kx
theorem blJ7_replacementNode_20 {w : WD} {j : JB} {r : Nat} {G : GH} {sa0 : Option Nat}
    (hP : j.2.2.1 (some (vR sa0)) G)
    : wk_V w mJ7_replacementNode j 20 [] [vR sa0] G r := by
  exact wk_areturn rfl (Or.inl ⟨_, rfl⟩) dJ7_replacementNode_20 hP
/-! java/util/HashMap.replacementTreeNode(Ljava/util/HashMap$Node;Ljava/util/HashMap$Node;)Ljava/util/HashMap$TreeNode; -/
theorem blJ7_replacementTreeNode_0 {w : WD} {j : JB} {r : Nat} {G : GH} {a1 : Option Nat} {a2 : Option Nat}
    (hr : 1 ≤ r)
    (k : ∀ q, hp_kd G q = 0 → hp_A w q → wk_V w mJ7_replacementTreeNode j 3 [(1, vR a1), (2, vR a2)] [vR (some q)] (hp_nw G q 25 0) (r - 1))
    : wk_V w mJ7_replacementTreeNode j 0 [(1, vR a1), (2, vR a2)] [] G r := by
  refine wk_new 25 11 ⟨by decide, by decide, q1082, q1651, q149, rfl⟩ hr dJ7_replacementTreeNode_0 (fun q h1 h2 => ?_)
  exact (k q h1 h2)
theorem blJ7_replacementTreeNode_3 {w : WD} {j : JB} {r : Nat} {G : GH} {a1 : Option Nat} {a2 : Option Nat} {sa0 : Option Nat} {o1 : Nat} {o5 : Nat} {d' b' : Nat} {P : Option WV → GH → Prop} {PX : String → Nat → GH → Prop}
    (e1 : a1 = some o1)
    (hk2 : 24 ≤ hp_kd G o1 ∧ hp_kd G o1 ≤ 25)
    (e5 : sa0 = some o5)
    (hC : wk_C w mJ26_init d' b' [vR (some o5), vI (hp_i G o1 0), vR (hp_r G o1 1), vR (hp_r G o1 2), vR a2] G P PX)
    (hdp : d' + 1 ≤ j.1)
    (hb : b' ≤ r)
    (kr : ∀ v G', P v G' → wk_V w mJ7_replacementTreeNode j 20 [] (v.toList ++ [vR sa0]) G' (r - b'))
    (kx : ∀ E q G', PX E q G' → wk_T w mJ7_replacementTreeNode j 17 [(1, vR a1), (2, vR a2)] G' (r - b') E q)
    : wk_V w mJ7_replacementTreeNode j 3 [(1, vR a1), (2, vR a2)] [vR sa0] G r := by
  refine wk_dup dJ7_replacementTreeNode_3 rfl ?_
  refine wk_aload_n 1 dJ7_replacementTreeNode_4 rfl rfl ?_
  refine wk_e e1 ?_
  refine wk_getI (hp_kd G o1) 0 (flJ7_168 _ hk2.1 hk2.2) (flJ7_168_t _ hk2.1 hk2.2).1 rfl dJ7_replacementTreeNode_5 ?_
  refine wk_aload_n 1 dJ7_replacementTreeNode_8 rfl rfl ?_
  refine wk_e e1 ?_
  refine wk_getR (hp_kd G o1) 1 (flJ7_170 _ hk2.1 hk2.2) (flJ7_170_t _ hk2.1 hk2.2).1 rfl dJ7_replacementTreeNode_9 ?_
  refine wk_aload_n 1 dJ7_replacementTreeNode_12 rfl rfl ?_
  refine wk_e e1 ?_
  refine wk_getR (hp_kd G o1) 2 (flJ7_162 _ hk2.1 hk2.2) (flJ7_162_t _ hk2.1 hk2.2).1 rfl dJ7_replacementTreeNode_13 ?_
  refine wk_aload_n 2 dJ7_replacementTreeNode_16 rfl rfl ?_
  refine wk_eAt 4 e5 rfl ?_
  exact wk_callI hC rfl rfl rfl q1652 q1653 q149 q1654 mdJ26_init (Nat.le_of_ble_eq_true rfl) rfl rfl (Nat.le_of_ble_eq_true rfl) hdp hb dJ7_replacementTreeNode_17 (fun v G' h => (wk_sub [] trivial (kr v G' h))) kx
theorem blJ7_replacementTreeNode_20 {w : WD} {j : JB} {r : Nat} {G : GH} {sa0 : Option Nat}
    (hP : j.2.2.1 (some (vR sa0)) G)
    : wk_V w mJ7_replacementTreeNode j 20 [] [vR sa0] G r := by
  exact wk_areturn rfl (Or.inl ⟨_, rfl⟩) dJ7_replacementTreeNode_20 hP
/-! java/util/HashMap.resize()[Ljava/util/HashMap$Node; -/
theorem blJ7_resize_0 {w : WD} {j : JB} {r : Nat} {G : GH} {a0 : Nat}
    (hk1 : hp_kd G a0 = 23)
    (kt : ∀ o9, (hp_r G a0 2) = some o9 → wk_V w mJ7_resize j 13 [(0, vR (some a0)), (1, vR (hp_r G a0 2))] [] G r)
    (kf : (hp_r G a0 2) = none → wk_V w mJ7_resize j 9 [(0, vR (some a0)), (1, vR (hp_r G a0 2))] [] G r)
    : wk_V w mJ7_resize j 0 [(0, vR (some a0))] [] G r := by
  refine wk_aload_n 0 dJ7_resize_0 rfl rfl ?_
  refine wk_getR 23 2 flJ7_105 rfl hk1 dJ7_resize_1 ?_
  refine wk_astore_n 1 dJ7_resize_4 rfl (Nat.le_of_ble_eq_true rfl) ?_
  refine wk_aload_n 1 dJ7_resize_5 rfl rfl ?_
  exact wk_ifnonnull 13 dJ7_resize_6 (by decide) (fun o9 h => (kt o9 h)) (fun h => (kf h))
theorem blJ7_resize_9 {w : WD} {j : JB} {r : Nat} {G : GH} {a0 : Nat} {a1 : Option Nat}
    (k : wk_V w mJ7_resize j 15 [(0, vR (some a0)), (1, vR a1)] [vI (0 : Int32)] G r)
    : wk_V w mJ7_resize j 9 [(0, vR (some a0)), (1, vR a1)] [] G r := by
  refine wk_iconst (0 : Int32) dJ7_resize_9 (by decide) ?_
  exact wk_goto 15 dJ7_resize_10 (by decide) k
theorem blJ7_resize_13 {w : WD} {j : JB} {r : Nat} {G : GH} {a0 : Nat} {a1 : Option Nat} {o1 : Nat}
    (e1 : a1 = some o1)
    (hk2 : 28 ≤ hp_kd G o1)
    (k : wk_V w mJ7_resize j 15 [(0, vR (some a0)), (1, vR a1)] [vI (nI (hp_ln G o1))] G r)
    : wk_V w mJ7_resize j 13 [(0, vR (some a0)), (1, vR a1)] [] G r := by
  refine wk_aload_n 1 dJ7_resize_13 rfl rfl ?_
  refine wk_e e1 ?_
  refine wk_alen hk2 dJ7_resize_14 ?_
  exact k
theorem blJ7_resize_15 {w : WD} {j : JB} {r : Nat} {G : GH} {a0 : Nat} {a1 : Option Nat} {s0 : Int32}
    (hk1 : hp_kd G a0 = 23)
    (kt : s0 ≤ 0 → wk_V w mJ7_resize j 67 [(0, vR (some a0)), (1, vR a1), (2, vI s0), (3, vI (hp_i G a0 6)), (5, vI (0 : Int32))] [] G r)
    (kf : ¬ (s0 ≤ 0) → wk_V w mJ7_resize j 28 [(0, vR (some a0)), (1, vR a1), (2, vI s0), (3, vI (hp_i G a0 6)), (5, vI (0 : Int32))] [] G r)
    : wk_V w mJ7_resize j 15 [(0, vR (some a0)), (1, vR a1)] [vI s0] G r := by
  refine wk_istore_n 2 dJ7_resize_15 rfl (Nat.le_of_ble_eq_true rfl) ?_
  refine wk_aload_n 0 dJ7_resize_16 rfl rfl ?_
  refine wk_getI 23 6 flJ7_88 rfl hk1 dJ7_resize_17 ?_
  refine wk_istore_n 3 dJ7_resize_20 rfl (Nat.le_of_ble_eq_true rfl) ?_
  refine wk_iconst (0 : Int32) dJ7_resize_21 (by decide) ?_
  refine wk_istore dJ7_resize_22 (Nat.le_of_ble_eq_true rfl) ?_
  refine wk_iload_n 2 dJ7_resize_24 rfl rfl ?_
  exact wk_if_le 67 dJ7_resize_25 (by decide) (fun h => (kt h)) (fun h => (kf h))
theorem blJ7_resize_28 {w : WD} {j : JB} {r : Nat} {G : GH} {a0 : Nat} {a1 : Option Nat} {x2 : Int32} {x3 : Int32} {x5 : Int32}
    (kt : x2 < (1073741824 : Int32) → wk_V w mJ7_resize j 42 [(0, vR (some a0)), (1, vR a1), (2, vI x2), (3, vI x3), (5, vI x5)] [] G r)
    (kf : ¬ (x2 < (1073741824 : Int32)) → wk_V w mJ7_resize j 34 [(0, vR (some a0)), (1, vR a1)] [] G r)
    : wk_V w mJ7_resize j 28 [(0, vR (some a0)), (1, vR a1), (2, vI x2), (3, vI x3), (5, vI x5)] [] G r := by
  refine wk_iload_n 2 dJ7_resize_28 rfl rfl ?_
  refine wk_ldc (1073741824 : Int32) q1573 dJ7_resize_29 ?_
  exact wk_icmp_lt 42 dJ7_resize_31 (by decide) (fun h => (kt h)) (fun h => (wk_sub [(0, vR (some a0)), (1, vR a1)] ⟨rfl, rfl, trivial⟩ (kf h)))
theorem blJ7_resize_34 {w : WD} {j : JB} {r : Nat} {G : GH} {a0 : Nat} {a1 : Option Nat}
    (hk1 : hp_kd G a0 = 23)
    (hA2 : hp_A w a0)
    (hP : j.2.2.1 (some (vR a1)) (hp_sI G a0 6 (2147483647 : Int32)))
    : wk_V w mJ7_resize j 34 [(0, vR (some a0)), (1, vR a1)] [] G r := by
  refine wk_aload_n 0 dJ7_resize_34 rfl rfl ?_
  refine wk_ldc (2147483647 : Int32) q1574 dJ7_resize_35 ?_
  refine wk_putI 23 6 flJ7_88 rfl (Or.inl rfl) hk1 hA2 ⟨rfl, rfl⟩ dJ7_resize_37 ?_
  refine wk_aload_n 1 dJ7_resize_40 rfl rfl ?_
  exact wk_areturn rfl (Or.inr ⟨_, rfl⟩) dJ7_resize_41 hP
theorem blJ7_resize_42 {w : WD} {j : JB} {r : Nat} {G : GH} {a0 : Nat} {a1 : Option Nat} {x2 : Int32} {x3 : Int32} {x5 : Int32}
    (kt : (1073741824 : Int32) ≤ (x2 <<< ((1 : Int32) &&& 31)) → wk_V w mJ7_resize j 85 [(0, vR (some a0)), (1, vR a1), (2, vI x2), (4, vI (x2 <<< ((1 : Int32) &&& 31))), (5, vI x5)] [] G r)
    (kf : ¬ ((1073741824 : Int32) ≤ (x2 <<< ((1 : Int32) &&& 31))) → wk_V w mJ7_resize j 53 [(0, vR (some a0)), (1, vR a1), (2, vI x2), (3, vI x3), (4, vI (x2 <<< ((1 : Int32) &&& 31))), (5, vI x5)] [] G r)
    : wk_V w mJ7_resize j 42 [(0, vR (some a0)), (1, vR a1), (2, vI x2), (3, vI x3), (5, vI x5)] [] G r := by
  refine wk_iload_n 2 dJ7_resize_42 rfl rfl ?_
  refine wk_iconst (1 : Int32) dJ7_resize_43 (by decide) ?_
  refine wk_ishl dJ7_resize_44 ?_
  refine wk_dup dJ7_resize_45 rfl ?_
  refine wk_istore dJ7_resize_46 (Nat.le_of_ble_eq_true rfl) ?_
  refine wk_ldc (1073741824 : Int32) q1573 dJ7_resize_48 ?_
  exact wk_icmp_ge 85 dJ7_resize_50 (by decide) (fun h => (wk_sub [(0, vR (some a0)), (1, vR a1), (2, vI x2), (4, vI (x2 <<< ((1 : Int32) &&& 31))), (5, vI x5)] ⟨rfl, rfl, rfl, rfl, rfl, trivial⟩ (kt h))) (fun h => (kf h))
theorem blJ7_resize_53 {w : WD} {j : JB} {r : Nat} {G : GH} {a0 : Nat} {a1 : Option Nat} {x2 : Int32} {x3 : Int32} {x4 : Int32} {x5 : Int32}
    (kt : x2 < (16 : Int32) → wk_V w mJ7_resize j 85 [(0, vR (some a0)), (1, vR a1), (2, vI x2), (4, vI x4), (5, vI x5)] [] G r)
    (kf : ¬ (x2 < (16 : Int32)) → wk_V w mJ7_resize j 59 [(0, vR (some a0)), (1, vR a1), (2, vI x2), (3, vI x3), (4, vI x4)] [] G r)
    : wk_V w mJ7_resize j 53 [(0, vR (some a0)), (1, vR a1), (2, vI x2), (3, vI x3), (4, vI x4), (5, vI x5)] [] G r := by
  refine wk_iload_n 2 dJ7_resize_53 rfl rfl ?_
  refine wk_bipush (16 : Int32) dJ7_resize_54 (by decide) ?_
  exact wk_icmp_lt 85 dJ7_resize_56 (by decide) (fun h => (wk_sub [(0, vR (some a0)), (1, vR a1), (2, vI x2), (4, vI x4), (5, vI x5)] ⟨rfl, rfl, rfl, rfl, rfl, trivial⟩ (kt h))) (fun h => (wk_sub [(0, vR (some a0)), (1, vR a1), (2, vI x2), (3, vI x3), (4, vI x4)] ⟨rfl, rfl, rfl, rfl, rfl, trivial⟩ (kf h)))
theorem blJ7_resize_59 {w : WD} {j : JB} {r : Nat} {G : GH} {a0 : Nat} {a1 : Option Nat} {x2 : Int32} {x3 : Int32} {x4 : Int32}
    (k : wk_V w mJ7_resize j 85 [(0, vR (some a0)), (1, vR a1), (2, vI x2), (4, vI x4), (5, vI (x3 <<< ((1 : Int32) &&& 31)))] [] G r)
    : wk_V w mJ7_resize j 59 [(0, vR (some a0)), (1, vR a1), (2, vI x2), (3, vI x3), (4, vI x4)] [] G r := by
  refine wk_iload_n 3 dJ7_resize_59 rfl rfl ?_
  refine wk_iconst (1 : Int32) dJ7_resize_60 (by decide) ?_
  refine wk_ishl dJ7_resize_61 ?_
  refine wk_istore dJ7_resize_62 (Nat.le_of_ble_eq_true rfl) ?_
  exact wk_goto 85 dJ7_resize_64 (by decide) (wk_sub [(0, vR (some a0)), (1, vR a1), (2, vI x2), (4, vI x4), (5, vI (x3 <<< ((1 : Int32) &&& 31)))] ⟨rfl, rfl, rfl, rfl, rfl, trivial⟩ k)
theorem blJ7_resize_67 {w : WD} {j : JB} {r : Nat} {G : GH} {a0 : Nat} {a1 : Option Nat} {x2 : Int32} {x3 : Int32} {x5 : Int32}
    (kt : x3 ≤ 0 → wk_V w mJ7_resize j 77 [(0, vR (some a0)), (1, vR a1), (2, vI x2)] [] G r)
    (kf : ¬ (x3 ≤ 0) → wk_V w mJ7_resize j 71 [(0, vR (some a0)), (1, vR a1), (2, vI x2), (3, vI x3), (5, vI x5)] [] G r)
    : wk_V w mJ7_resize j 67 [(0, vR (some a0)), (1, vR a1), (2, vI x2), (3, vI x3), (5, vI x5)] [] G r := by
  refine wk_iload_n 3 dJ7_resize_67 rfl rfl ?_
  exact wk_if_le 77 dJ7_resize_68 (by decide) (fun h => (wk_sub [(0, vR (some a0)), (1, vR a1), (2, vI x2)] ⟨rfl, rfl, rfl, trivial⟩ (kt h))) (fun h => (kf h))
theorem blJ7_resize_71 {w : WD} {j : JB} {r : Nat} {G : GH} {a0 : Nat} {a1 : Option Nat} {x2 : Int32} {x3 : Int32} {x5 : Int32}
    (k : wk_V w mJ7_resize j 85 [(0, vR (some a0)), (1, vR a1), (2, vI x2), (4, vI x3), (5, vI x5)] [] G r)
    : wk_V w mJ7_resize j 71 [(0, vR (some a0)), (1, vR a1), (2, vI x2), (3, vI x3), (5, vI x5)] [] G r := by
  refine wk_iload_n 3 dJ7_resize_71 rfl rfl ?_
  refine wk_istore dJ7_resize_72 (Nat.le_of_ble_eq_true rfl) ?_
  exact wk_goto 85 dJ7_resize_74 (by decide) (wk_sub [(0, vR (some a0)), (1, vR a1), (2, vI x2), (4, vI x3), (5, vI x5)] ⟨rfl, rfl, rfl, rfl, rfl, trivial⟩ k)
theorem blJ7_resize_77 {w : WD} {j : JB} {r : Nat} {G : GH} {a0 : Nat} {a1 : Option Nat} {x2 : Int32}
    (k : wk_V w mJ7_resize j 85 [(0, vR (some a0)), (1, vR a1), (2, vI x2), (4, vI (16 : Int32)), (5, vI (12 : Int32))] [] G r)
    : wk_V w mJ7_resize j 77 [(0, vR (some a0)), (1, vR a1), (2, vI x2)] [] G r := by
  refine wk_bipush (16 : Int32) dJ7_resize_77 (by decide) ?_
  refine wk_istore dJ7_resize_79 (Nat.le_of_ble_eq_true rfl) ?_
  refine wk_bipush (12 : Int32) dJ7_resize_81 (by decide) ?_
  refine wk_istore dJ7_resize_83 (Nat.le_of_ble_eq_true rfl) ?_
  exact k
theorem blJ7_resize_85 {w : WD} {j : JB} {r : Nat} {G : GH} {a0 : Nat} {a1 : Option Nat} {x2 : Int32} {x4 : Int32} {x5 : Int32}
    (kt : ¬ (x5 = 0) → wk_V w mJ7_resize j 125 [(0, vR (some a0)), (1, vR a1), (2, vI x2), (4, vI x4), (5, vI x5)] [] G r)
    (kf : x5 = 0 → wk_V w mJ7_resize j 90 [(0, vR (some a0)), (1, vR a1), (2, vI x2), (4, vI x4)] [] G r)
    : wk_V w mJ7_resize j 85 [(0, vR (some a0)), (1, vR a1), (2, vI x2), (4, vI x4), (5, vI x5)] [] G r := by
  refine wk_iload dJ7_resize_85 rfl ?_
  exact wk_if_ne 125 dJ7_resize_87 (by decide) (fun h => (kt h)) (fun h => (wk_sub [(0, vR (some a0)), (1, vR a1), (2, vI x2), (4, vI x4)] ⟨rfl, rfl, rfl, rfl, trivial⟩ (kf h)))
-- blJ7_resize_90: left out (i2f)
theorem blJ7_resize_125 {w : WD} {j : JB} {r : Nat} {G : GH} {a0 : Nat} {a1 : Option Nat} {x2 : Int32} {x4 : Int32} {x5 : Int32}
    (hk1 : hp_kd G a0 = 23)
    (hA2 : hp_A w a0)
    (hn : ¬ x4 < 0)
    (hb : x4.toNatClampNeg ≤ 67108864)
    (hr : 1 + x4.toNatClampNeg / 12 ≤ r)
    (k : ∀ q, hp_kd G q = 0 → hp_A w q → wk_V w mJ7_resize j 136 [(0, vR (some a0)), (1, vR a1), (2, vI x2), (4, vI x4)] [vR (some q)] (hp_nw (hp_sI G a0 6 x5) q 35 x4.toNatClampNeg) (r - (1 + x4.toNatClampNeg / 12)))
    : wk_V w mJ7_resize j 125 [(0, vR (some a0)), (1, vR a1), (2, vI x2), (4, vI x4), (5, vI x5)] [] G r := by
  refine wk_aload_n 0 dJ7_resize_125 rfl rfl ?_
  refine wk_iload dJ7_resize_126 rfl ?_
  refine wk_putI 23 6 flJ7_88 rfl (Or.inl rfl) hk1 hA2 ⟨rfl, rfl⟩ dJ7_resize_128 ?_
  refine wk_iload dJ7_resize_131 rfl ?_
  refine wk_newq 35 "java/util/HashMap$Node" rfl ⟨by decide, by decide⟩ q1576 (by decide +kernel) hn hb hr dJ7_resize_133 (fun q h1 h2 => ?_)
  exact (wk_sub [(0, vR (some a0)), (1, vR a1), (2, vI x2), (4, vI x4)] ⟨rfl, rfl, rfl, rfl, trivial⟩ (k q h1 h2))
theorem blJ7_resize_136 {w : WD} {j : JB} {r : Nat} {G : GH} {a0 : Nat} {a1 : Option Nat} {x2 : Int32} {x4 : Int32} {sa0 : Option Nat}
    (hk1 : hp_kd G a0 = 23)
    (hA2 : hp_A w a0)
    (kt : a1 = none → wk_V w mJ7_resize j 353 [(6, vR sa0)] [] (hp_sR G a0 2 sa0) r)
    (kf : ∀ o9, a1 = some o9 → wk_V w mJ7_resize j 148 [(0, vR (some a0)), (1, vR a1), (2, vI x2), (4, vI x4), (6, vR sa0)] [] (hp_sR G a0 2 sa0) r)
    : wk_V w mJ7_resize j 136 [(0, vR (some a0)), (1, vR a1), (2, vI x2), (4, vI x4)] [vR sa0] G r := by
  refine wk_astore dJ7_resize_136 (Nat.le_of_ble_eq_true rfl) ?_
  refine wk_aload_n 0 dJ7_resize_138 rfl rfl ?_
  refine wk_aload dJ7_resize_139 rfl ?_
  refine wk_putR 23 2 flJ7_105 rfl (Or.inl rfl) hk1 hA2 dJ7_resize_141 ?_
  refine wk_aload_n 1 dJ7_resize_144 rfl rfl ?_
  exact wk_ifnull 353 dJ7_resize_145 (by decide) (fun h => (wk_sub [(6, vR sa0)] ⟨rfl, trivial⟩ (kt h))) (fun o9 h => (kf o9 h))
theorem blJ7_resize_148 {w : WD} {j : JB} {r : Nat} {G : GH} {a0 : Nat} {a1 : Option Nat} {x2 : Int32} {x4 : Int32} {a6 : Option Nat}
    (k : wk_V w mJ7_resize j 151 [(0, vR (some a0)), (1, vR a1), (2, vI x2), (4, vI x4), (6, vR a6), (7, vI (0 : Int32))] [] G r)
    : wk_V w mJ7_resize j 148 [(0, vR (some a0)), (1, vR a1), (2, vI x2), (4, vI x4), (6, vR a6)] [] G r := by
  refine wk_iconst (0 : Int32) dJ7_resize_148 (by decide) ?_
  refine wk_istore dJ7_resize_149 (Nat.le_of_ble_eq_true rfl) ?_
  exact k
theorem blJ7_resize_151 {w : WD} {j : JB} {r : Nat} {G : GH} {a0 : Nat} {a1 : Option Nat} {x2 : Int32} {x4 : Int32} {a6 : Option Nat} {x7 : Int32}
    (kt : x2 ≤ x7 → wk_V w mJ7_resize j 353 [(6, vR a6)] [] G r)
    (kf : ¬ (x2 ≤ x7) → wk_V w mJ7_resize j 157 [(0, vR (some a0)), (1, vR a1), (2, vI x2), (4, vI x4), (6, vR a6), (7, vI x7)] [] G r)
    : wk_V w mJ7_resize j 151 [(0, vR (some a0)), (1, vR a1), (2, vI x2), (4, vI x4), (6, vR a6), (7, vI x7)] [] G r := by
  refine wk_iload dJ7_resize_151 rfl ?_
  refine wk_iload_n 2 dJ7_resize_153 rfl rfl ?_
  exact wk_icmp_ge 353 dJ7_resize_154 (by decide) (fun h => (wk_sub [(6, vR a6)] ⟨rfl, trivial⟩ (kt h))) (fun h => (kf h))
theorem blJ7_resize_157 {w : WD} {j : JB} {r : Nat} {G : GH} {a0 : Nat} {a1 : Option Nat} {x2 : Int32} {x4 : Int32} {a6 : Option Nat} {x7 : Int32} {o1 : Nat}
    (e1 : a1 = some o1)
    (hi2 : vp_in x7 (hp_ln G o1))
    (hk3 : 32 ≤ hp_kd G o1)
    (kt : (hp_r G o1 x7.toNatClampNeg) = none → wk_V w mJ7_resize j 347 [(0, vR (some a0)), (1, vR a1), (2, vI x2), (4, vI x4), (6, vR a6), (7, vI x7)] [] G r)
    (kf : ∀ o9, (hp_r G o1 x7.toNatClampNeg) = some o9 → wk_V w mJ7_resize j 167 [(0, vR (some a0)), (1, vR a1), (2, vI x2), (4, vI x4), (6, vR a6), (7, vI x7), (8, vR (hp_r G o1 x7.toNatClampNeg))] [] G r)
    : wk_V w mJ7_resize j 157 [(0, vR (some a0)), (1, vR a1), (2, vI x2), (4, vI x4), (6, vR a6), (7, vI x7)] [] G r := by
  refine wk_aload_n 1 dJ7_resize_157 rfl rfl ?_
  refine wk_iload dJ7_resize_158 rfl ?_
  refine wk_e2 e1 ?_
  refine wk_aald hk3 hi2 dJ7_resize_160 ?_
  refine wk_dup dJ7_resize_161 rfl ?_
  refine wk_astore dJ7_resize_162 (Nat.le_of_ble_eq_true rfl) ?_
  exact wk_ifnull 347 dJ7_resize_164 (by decide) (fun h => (wk_sub [(0, vR (some a0)), (1, vR a1), (2, vI x2), (4, vI x4), (6, vR a6), (7, vI x7)] ⟨rfl, rfl, rfl, rfl, rfl, rfl, trivial⟩ (kt h))) (fun o9 h => (kf o9 h))
theorem blJ7_resize_167 {w : WD} {j : JB} {r : Nat} {G : GH} {a0 : Nat} {a1 : Option Nat} {x2 : Int32} {x4 : Int32} {a6 : Option Nat} {x7 : Int32} {a8 : Option Nat} {o1 : Nat} {T5 : String} {o8 : Nat}
    (e1 : a1 = some o1)
    (hi2 : vp_in x7 (hp_ln G o1))
    (hA3 : hp_A w o1)
    (hk4 : 32 ≤ hp_kd G o1)
    (hT6 : hp_at (hp_kd G o1) = .object T5)
    (hx7 : ∀ b, none = some b → hp_kd G b ≠ 0 ∧ hp_kd G b < 28 ∧ hp_sub (hp_kd G b) T5)
    (e8 : a8 = some o8)
    (hk9 : 24 ≤ hp_kd G o8 ∧ hp_kd G o8 ≤ 25)
    (kt : ∀ o9, (hp_r (hp_sR G o1 x7.toNatClampNeg none) o8 3) = some o9 → wk_V w mJ7_resize j 198 [(0, vR (some a0)), (1, vR a1), (2, vI x2), (4, vI x4), (6, vR a6), (7, vI x7), (8, vR a8)] [] (hp_sR G o1 x7.toNatClampNeg none) r)
    (kf : (hp_r (hp_sR G o1 x7.toNatClampNeg none) o8 3) = none → wk_V w mJ7_resize j 180 [(0, vR (some a0)), (1, vR a1), (2, vI x2), (4, vI x4), (6, vR a6), (7, vI x7), (8, vR a8)] [] (hp_sR G o1 x7.toNatClampNeg none) r)
    : wk_V w mJ7_resize j 167 [(0, vR (some a0)), (1, vR a1), (2, vI x2), (4, vI x4), (6, vR a6), (7, vI x7), (8, vR a8)] [] G r := by
  refine wk_aload_n 1 dJ7_resize_167 rfl rfl ?_
  refine wk_iload dJ7_resize_168 rfl ?_
  refine wk_null dJ7_resize_170 ?_
  refine wk_e3 e1 ?_
  refine wk_aast hk4 hT6 hA3 hi2 hx7 dJ7_resize_171 ?_
  refine wk_aload dJ7_resize_172 rfl ?_
  refine wk_e e8 ?_
  refine wk_getR (hp_kd G o8) 3 (flJ7_177 _ hk9.1 hk9.2) (flJ7_177_t _ hk9.1 hk9.2).1 rfl dJ7_resize_174 ?_
  exact wk_ifnonnull 198 dJ7_resize_177 (by decide) (fun o9 h => (kt o9 h)) (fun h => (kf h))
theorem blJ7_resize_180 {w : WD} {j : JB} {r : Nat} {G : GH} {a0 : Nat} {a1 : Option Nat} {x2 : Int32} {x4 : Int32} {a6 : Option Nat} {x7 : Int32} {a8 : Option Nat} {o1 : Nat} {o3 : Nat} {T7 : String}
    (e1 : a8 = some o1)
    (hk2 : 24 ≤ hp_kd G o1 ∧ hp_kd G o1 ≤ 25)
    (e3 : a6 = some o3)
    (hi4 : vp_in ((hp_i G o1 0) &&& (x4 - (1 : Int32))) (hp_ln G o3))
    (hA5 : hp_A w o3)
    (hk6 : 32 ≤ hp_kd G o3)
    (hT8 : hp_at (hp_kd G o3) = .object T7)
    (hx9 : ∀ b, a8 = some b → hp_kd G b ≠ 0 ∧ hp_kd G b < 28 ∧ hp_sub (hp_kd G b) T7)
    (k : wk_V w mJ7_resize j 347 [(0, vR (some a0)), (1, vR a1), (2, vI x2), (4, vI x4), (6, vR a6), (7, vI x7)] [] (hp_sR G o3 ((hp_i G o1 0) &&& (x4 - (1 : Int32))).toNatClampNeg a8) r)
    : wk_V w mJ7_resize j 180 [(0, vR (some a0)), (1, vR a1), (2, vI x2), (4, vI x4), (6, vR a6), (7, vI x7), (8, vR a8)] [] G r := by
  refine wk_aload dJ7_resize_180 rfl ?_
  refine wk_aload dJ7_resize_182 rfl ?_
  refine wk_e e1 ?_
  refine wk_getI (hp_kd G o1) 0 (flJ7_168 _ hk2.1 hk2.2) (flJ7_168_t _ hk2.1 hk2.2).1 rfl dJ7_resize_184 ?_
  refine wk_iload dJ7_resize_187 rfl ?_
  refine wk_iconst (1 : Int32) dJ7_resize_189 (by decide) ?_
  refine wk_isub dJ7_resize_190 ?_
  refine wk_iand dJ7_resize_191 ?_
  refine wk_aload dJ7_resize_192 rfl ?_
  refine wk_e3 e3 ?_
  refine wk_aast hk6 hT8 hA5 hi4 hx9 dJ7_resize_194 ?_
  exact wk_goto 347 dJ7_resize_195 (by decide) (wk_sub [(0, vR (some a0)), (1, vR a1), (2, vI x2), (4, vI x4), (6, vR a6), (7, vI x7)] ⟨rfl, rfl, rfl, rfl, rfl, rfl, trivial⟩ k)
theorem blJ7_resize_198 {w : WD} {j : JB} {r : Nat} {G : GH} {a0 : Nat} {a1 : Option Nat} {x2 : Int32} {x4 : Int32} {a6 : Option Nat} {x7 : Int32} {a8 : Option Nat} {v1 : Int32}
    (hc2 : hp_inst G a8 "java/util/HashMap$TreeNode" v1)
    (kt : v1 = 0 → wk_V w mJ7_resize j 223 [(0, vR (some a0)), (1, vR a1), (2, vI x2), (4, vI x4), (6, vR a6), (7, vI x7), (8, vR a8)] [] G r)
    (kf : ¬ (v1 = 0) → wk_V w mJ7_resize j 206 [(0, vR (some a0)), (1, vR a1), (2, vI x2), (4, vI x4), (6, vR a6), (7, vI x7), (8, vR a8)] [] G r)
    : wk_V w mJ7_resize j 198 [(0, vR (some a0)), (1, vR a1), (2, vI x2), (4, vI x4), (6, vR a6), (7, vI x7), (8, vR a8)] [] G r := by
  refine wk_aload dJ7_resize_198 rfl ?_
  refine wk_instQ q1082 hc2 dJ7_resize_200 ?_
  exact wk_if_eq 223 dJ7_resize_203 (by decide) (fun h => (kt h)) (fun h => (kf h))
theorem blJ7_resize_206 {w : WD} {j : JB} {r : Nat} {G : GH} {a0 : Nat} {a1 : Option Nat} {x2 : Int32} {x4 : Int32} {a6 : Option Nat} {x7 : Int32} {a8 : Option Nat} {o2 : Nat} {d' b' : Nat} {P : Option WV → GH → Prop} {PX : String → Nat → GH → Prop}
    (hc1 : ∀ a, a8 = some a → hp_kd G a ≠ 0 ∧ hp_kd G a < 28 ∧ hp_sub (hp_kd G a) "java/util/HashMap$TreeNode")
    (e2 : a8 = some o2)
    (hkr : hp_kd G o2 = 25)
    (hC : wk_C w mJ26_split d' b' [vR (some o2), vR (some a0), vR a6, vI x7, vI x2] G P PX)
    (hdp : d' + 1 ≤ j.1)
    (hb : b' ≤ r)
    (kr : ∀ v G', P v G' → wk_V w mJ7_resize j 220 [(0, vR (some a0)), (1, vR a1), (2, vI x2), (4, vI x4), (6, vR a6), (7, vI x7)] (v.toList ++ []) G' (r - b'))
    (kx : ∀ E q G', PX E q G' → wk_T w mJ7_resize j 217 [(0, vR (some a0)), (1, vR a1), (2, vI x2), (4, vI x4), (6, vR a6), (7, vI x7), (8, vR a8)] G' (r - b') E q)
    : wk_V w mJ7_resize j 206 [(0, vR (some a0)), (1, vR a1), (2, vI x2), (4, vI x4), (6, vR a6), (7, vI x7), (8, vR a8)] [] G r := by
  refine wk_aload dJ7_resize_206 rfl ?_
  refine wk_castQ q1082 hc1 dJ7_resize_208 ?_
  refine wk_aload_n 0 dJ7_resize_211 rfl rfl ?_
  refine wk_aload dJ7_resize_212 rfl ?_
  refine wk_iload dJ7_resize_214 rfl ?_
  refine wk_iload_n 2 dJ7_resize_216 rfl rfl ?_
  refine wk_eAt 4 e2 rfl ?_
  exact wk_callV hC rfl q1578 q1579 q1580 q149 q1581 mdJ26_split (Nat.le_of_ble_eq_true rfl) ⟨by show hp_kd G o2 ≠ 0; rw [hkr]; decide, by show hp_kd G o2 < 28; rw [hkr]; decide, by show hp_C (hp_kd G o2) = _; rw [hkr]; rfl⟩ rfl rfl (Nat.le_of_ble_eq_true rfl) hdp hb dJ7_resize_217 (fun v G' h => (wk_sub [(0, vR (some a0)), (1, vR a1), (2, vI x2), (4, vI x4), (6, vR a6), (7, vI x7)] ⟨rfl, rfl, rfl, rfl, rfl, rfl, trivial⟩ (kr v G' h))) kx
theorem blJ7_resize_220 {w : WD} {j : JB} {r : Nat} {G : GH} {a0 : Nat} {a1 : Option Nat} {x2 : Int32} {x4 : Int32} {a6 : Option Nat} {x7 : Int32}
    (k : wk_V w mJ7_resize j 347 [(0, vR (some a0)), (1, vR a1), (2, vI x2), (4, vI x4), (6, vR a6), (7, vI x7)] [] G r)
    : wk_V w mJ7_resize j 220 [(0, vR (some a0)), (1, vR a1), (2, vI x2), (4, vI x4), (6, vR a6), (7, vI x7)] [] G r := by
  exact wk_goto 347 dJ7_resize_220 (by decide) k
theorem blJ7_resize_223 {w : WD} {j : JB} {r : Nat} {G : GH} {a0 : Nat} {a1 : Option Nat} {x2 : Int32} {x4 : Int32} {a6 : Option Nat} {x7 : Int32} {a8 : Option Nat}
    (k : wk_V w mJ7_resize j 235 [(0, vR (some a0)), (1, vR a1), (2, vI x2), (4, vI x4), (6, vR a6), (7, vI x7), (8, vR a8), (9, vR none), (10, vR none), (11, vR none), (12, vR none)] [] G r)
    : wk_V w mJ7_resize j 223 [(0, vR (some a0)), (1, vR a1), (2, vI x2), (4, vI x4), (6, vR a6), (7, vI x7), (8, vR a8)] [] G r := by
  refine wk_null dJ7_resize_223 ?_
  refine wk_astore dJ7_resize_224 (Nat.le_of_ble_eq_true rfl) ?_
  refine wk_null dJ7_resize_226 ?_
  refine wk_astore dJ7_resize_227 (Nat.le_of_ble_eq_true rfl) ?_
  refine wk_null dJ7_resize_229 ?_
  refine wk_astore dJ7_resize_230 (Nat.le_of_ble_eq_true rfl) ?_
  refine wk_null dJ7_resize_232 ?_
  refine wk_astore dJ7_resize_233 (Nat.le_of_ble_eq_true rfl) ?_
  exact k
theorem blJ7_resize_235 {w : WD} {j : JB} {r : Nat} {G : GH} {a0 : Nat} {a1 : Option Nat} {x2 : Int32} {x4 : Int32} {a6 : Option Nat} {x7 : Int32} {a8 : Option Nat} {a9 : Option Nat} {a10 : Option Nat} {a11 : Option Nat} {a12 : Option Nat} {o1 : Nat}
    (e1 : a8 = some o1)
    (hk2 : 24 ≤ hp_kd G o1 ∧ hp_kd G o1 ≤ 25)
    (kt : ¬ (((hp_i G o1 0) &&& x2) = 0) → wk_V w mJ7_resize j 278 [(0, vR (some a0)), (1, vR a1), (2, vI x2), (4, vI x4), (6, vR a6), (7, vI x7), (8, vR a8), (9, vR a9), (10, vR a10), (11, vR a11), (12, vR a12), (13, vR (hp_r G o1 3))] [] G r)
    (kf : ((hp_i G o1 0) &&& x2) = 0 → wk_V w mJ7_resize j 252 [(0, vR (some a0)), (1, vR a1), (2, vI x2), (4, vI x4), (6, vR a6), (7, vI x7), (8, vR a8), (9, vR a9), (10, vR a10), (11, vR a11), (12, vR a12), (13, vR (hp_r G o1 3))] [] G r)
    : wk_V w mJ7_resize j 235 [(0, vR (some a0)), (1, vR a1), (2, vI x2), (4, vI x4), (6, vR a6), (7, vI x7), (8, vR a8), (9, vR a9), (10, vR a10), (11, vR a11), (12, vR a12)] [] G r := by
  refine wk_aload dJ7_resize_235 rfl ?_
  refine wk_e e1 ?_
  refine wk_getR (hp_kd G o1) 3 (flJ7_177 _ hk2.1 hk2.2) (flJ7_177_t _ hk2.1 hk2.2).1 rfl dJ7_resize_237 ?_
  refine wk_astore dJ7_resize_240 (Nat.le_of_ble_eq_true rfl) ?_
  refine wk_aload dJ7_resize_242 rfl ?_
  refine wk_e e1 ?_
  refine wk_getI (hp_kd G o1) 0 (flJ7_168 _ hk2.1 hk2.2) (flJ7_168_t _ hk2.1 hk2.2).1 rfl dJ7_resize_244 ?_
  refine wk_iload_n 2 dJ7_resize_247 rfl rfl ?_
  refine wk_iand dJ7_resize_248 ?_
  exact wk_if_ne 278 dJ7_resize_249 (by decide) (fun h => (kt h)) (fun h => (kf h))
theorem blJ7_resize_252 {w : WD} {j : JB} {r : Nat} {G : GH} {a0 : Nat} {a1 : Option Nat} {x2 : Int32} {x4 : Int32} {a6 : Option Nat} {x7 : Int32} {a8 : Option Nat} {a9 : Option Nat} {a10 : Option Nat} {a11 : Option Nat} {a12 : Option Nat} {a13 : Option Nat}
    (kt : ∀ o9, a10 = some o9 → wk_V w mJ7_resize j 264 [(0, vR (some a0)), (1, vR a1), (2, vI x2), (4, vI x4), (6, vR a6), (7, vI x7), (8, vR a8), (9, vR a9), (10, vR a10), (11, vR a11), (12, vR a12), (13, vR a13)] [] G r)
    (kf : a10 = none → wk_V w mJ7_resize j 257 [(0, vR (some a0)), (1, vR a1), (2, vI x2), (4, vI x4), (6, vR a6), (7, vI x7), (8, vR a8), (11, vR a11), (12, vR a12), (13, vR a13)] [] G r)
    : wk_V w mJ7_resize j 252 [(0, vR (some a0)), (1, vR a1), (2, vI x2), (4, vI x4), (6, vR a6), (7, vI x7), (8, vR a8), (9, vR a9), (10, vR a10), (11, vR a11), (12, vR a12), (13, vR a13)] [] G r := by
  refine wk_aload dJ7_resize_252 rfl ?_
  exact wk_ifnonnull 264 dJ7_resize_254 (by decide) (fun o9 h => (kt o9 h)) (fun h => (wk_sub [(0, vR (some a0)), (1, vR a1), (2, vI x2), (4, vI x4), (6, vR a6), (7, vI x7), (8, vR a8), (11, vR a11), (12, vR a12), (13, vR a13)] ⟨rfl, rfl, rfl, rfl, rfl, rfl, rfl, rfl, rfl, rfl, trivial⟩ (kf h)))
theorem blJ7_resize_257 {w : WD} {j : JB} {r : Nat} {G : GH} {a0 : Nat} {a1 : Option Nat} {x2 : Int32} {x4 : Int32} {a6 : Option Nat} {x7 : Int32} {a8 : Option Nat} {a11 : Option Nat} {a12 : Option Nat} {a13 : Option Nat}
    (k : wk_V w mJ7_resize j 271 [(0, vR (some a0)), (1, vR a1), (2, vI x2), (4, vI x4), (6, vR a6), (7, vI x7), (8, vR a8), (9, vR a8), (11, vR a11), (12, vR a12), (13, vR a13)] [] G r)
    : wk_V w mJ7_resize j 257 [(0, vR (some a0)), (1, vR a1), (2, vI x2), (4, vI x4), (6, vR a6), (7, vI x7), (8, vR a8), (11, vR a11), (12, vR a12), (13, vR a13)] [] G r := by
  refine wk_aload dJ7_resize_257 rfl ?_
  refine wk_astore dJ7_resize_259 (Nat.le_of_ble_eq_true rfl) ?_
  exact wk_goto 271 dJ7_resize_261 (by decide) k
theorem blJ7_resize_264 {w : WD} {j : JB} {r : Nat} {G : GH} {a0 : Nat} {a1 : Option Nat} {x2 : Int32} {x4 : Int32} {a6 : Option Nat} {x7 : Int32} {a8 : Option Nat} {a9 : Option Nat} {a10 : Option Nat} {a11 : Option Nat} {a12 : Option Nat} {a13 : Option Nat} {o1 : Nat}
    (e1 : a10 = some o1)
    (hk2 : 24 ≤ hp_kd G o1 ∧ hp_kd G o1 ≤ 25)
    (hA3 : hp_A w o1)
    (k : wk_V w mJ7_resize j 271 [(0, vR (some a0)), (1, vR a1), (2, vI x2), (4, vI x4), (6, vR a6), (7, vI x7), (8, vR a8), (9, vR a9), (11, vR a11), (12, vR a12), (13, vR a13)] [] (hp_sR G o1 3 a8) r)
    : wk_V w mJ7_resize j 264 [(0, vR (some a0)), (1, vR a1), (2, vI x2), (4, vI x4), (6, vR a6), (7, vI x7), (8, vR a8), (9, vR a9), (10, vR a10), (11, vR a11), (12, vR a12), (13, vR a13)] [] G r := by
  refine wk_aload dJ7_resize_264 rfl ?_
  refine wk_aload dJ7_resize_266 rfl ?_
  refine wk_e2 e1 ?_
  refine wk_putR (hp_kd G o1) 3 (flJ7_177 _ hk2.1 hk2.2) (flJ7_177_t _ hk2.1 hk2.2).1 (Or.inl (flJ7_177_t _ hk2.1 hk2.2).2.1) rfl hA3 dJ7_resize_268 ?_
  exact (wk_sub [(0, vR (some a0)), (1, vR a1), (2, vI x2), (4, vI x4), (6, vR a6), (7, vI x7), (8, vR a8), (9, vR a9), (11, vR a11), (12, vR a12), (13, vR a13)] ⟨rfl, rfl, rfl, rfl, rfl, rfl, rfl, rfl, rfl, rfl, rfl, trivial⟩ k)
theorem blJ7_resize_271 {w : WD} {j : JB} {r : Nat} {G : GH} {a0 : Nat} {a1 : Option Nat} {x2 : Int32} {x4 : Int32} {a6 : Option Nat} {x7 : Int32} {a8 : Option Nat} {a9 : Option Nat} {a11 : Option Nat} {a12 : Option Nat} {a13 : Option Nat}
    (k : wk_V w mJ7_resize j 301 [(0, vR (some a0)), (1, vR a1), (2, vI x2), (4, vI x4), (6, vR a6), (7, vI x7), (9, vR a9), (10, vR a8), (11, vR a11), (12, vR a12), (13, vR a13)] [] G r)
    : wk_V w mJ7_resize j 271 [(0, vR (some a0)), (1, vR a1), (2, vI x2), (4, vI x4), (6, vR a6), (7, vI x7), (8, vR a8), (9, vR a9), (11, vR a11), (12, vR a12), (13, vR a13)] [] G r := by
  refine wk_aload dJ7_resize_271 rfl ?_
  refine wk_astore dJ7_resize_273 (Nat.le_of_ble_eq_true rfl) ?_
  exact wk_goto 301 dJ7_resize_275 (by decide) (wk_sub [(0, vR (some a0)), (1, vR a1), (2, vI x2), (4, vI x4), (6, vR a6), (7, vI x7), (9, vR a9), (10, vR a8), (11, vR a11), (12, vR a12), (13, vR a13)] ⟨rfl, rfl, rfl, rfl, rfl, rfl, rfl, rfl, rfl, rfl, rfl, trivial⟩ k)
theorem blJ7_resize_278 {w : WD} {j : JB} {r : Nat} {G : GH} {a0 : Nat} {a1 : Option Nat} {x2 : Int32} {x4 : Int32} {a6 : Option Nat} {x7 : Int32} {a8 : Option Nat} {a9 : Option Nat} {a10 : Option Nat} {a11 : Option Nat} {a12 : Option Nat} {a13 : Option Nat}
    (kt : ∀ o9, a12 = some o9 → wk_V w mJ7_resize j 290 [(0, vR (some a0)), (1, vR a1), (2, vI x2), (4, vI x4), (6, vR a6), (7, vI x7), (8, vR a8), (9, vR a9), (10, vR a10), (11, vR a11), (12, vR a12), (13, vR a13)] [] G r)
    (kf : a12 = none → wk_V w mJ7_resize j 283 [(0, vR (some a0)), (1, vR a1), (2, vI x2), (4, vI x4), (6, vR a6), (7, vI x7), (8, vR a8), (9, vR a9), (10, vR a10), (13, vR a13)] [] G r)
    : wk_V w mJ7_resize j 278 [(0, vR (some a0)), (1, vR a1), (2, vI x2), (4, vI x4), (6, vR a6), (7, vI x7), (8, vR a8), (9, vR a9), (10, vR a10), (11, vR a11), (12, vR a12), (13, vR a13)] [] G r := by
  refine wk_aload dJ7_resize_278 rfl ?_
  exact wk_ifnonnull 290 dJ7_resize_280 (by decide) (fun o9 h => (kt o9 h)) (fun h => (wk_sub [(0, vR (some a0)), (1, vR a1), (2, vI x2), (4, vI x4), (6, vR a6), (7, vI x7), (8, vR a8), (9, vR a9), (10, vR a10), (13, vR a13)] ⟨rfl, rfl, rfl, rfl, rfl, rfl, rfl, rfl, rfl, rfl, trivial⟩ (kf h)))
theorem blJ7_resize_283 {w : WD} {j : JB} {r : Nat} {G : GH} {a0 : Nat} {a1 : Option Nat} {x2 : Int32} {x4 : Int32} {a6 : Option Nat} {x7 : Int32} {a8 : Option Nat} {a9 : Option Nat} {a10 : Option Nat} {a13 : Option Nat}
    (k : wk_V w mJ7_resize j 297 [(0, vR (some a0)), (1, vR a1), (2, vI x2), (4, vI x4), (6, vR a6), (7, vI x7), (8, vR a8), (9, vR a9), (10, vR a10), (11, vR a8), (13, vR a13)] [] G r)
    : wk_V w mJ7_resize j 283 [(0, vR (some a0)), (1, vR a1), (2, vI x2), (4, vI x4), (6, vR a6), (7, vI x7), (8, vR a8), (9, vR a9), (10, vR a10), (13, vR a13)] [] G r := by
  refine wk_aload dJ7_resize_283 rfl ?_
  refine wk_astore dJ7_resize_285 (Nat.le_of_ble_eq_true rfl) ?_
  exact wk_goto 297 dJ7_resize_287 (by decide) k
theorem blJ7_resize_290 {w : WD} {j : JB} {r : Nat} {G : GH} {a0 : Nat} {a1 : Option Nat} {x2 : Int32} {x4 : Int32} {a6 : Option Nat} {x7 : Int32} {a8 : Option Nat} {a9 : Option Nat} {a10 : Option Nat} {a11 : Option Nat} {a12 : Option Nat} {a13 : Option Nat} {o1 : Nat}
    (e1 : a12 = some o1)
    (hk2 : 24 ≤ hp_kd G o1 ∧ hp_kd G o1 ≤ 25)
    (hA3 : hp_A w o1)
    (k : wk_V w mJ7_resize j 297 [(0, vR (some a0)), (1, vR a1), (2, vI x2), (4, vI x4), (6, vR a6), (7, vI x7), (8, vR a8), (9, vR a9), (10, vR a10), (11, vR a11), (13, vR a13)] [] (hp_sR G o1 3 a8) r)
    : wk_V w mJ7_resize j 290 [(0, vR (some a0)), (1, vR a1), (2, vI x2), (4, vI x4), (6, vR a6), (7, vI x7), (8, vR a8), (9, vR a9), (10, vR a10), (11, vR a11), (12, vR a12), (13, vR a13)] [] G r := by
  refine wk_aload dJ7_resize_290 rfl ?_
  refine wk_aload dJ7_resize_292 rfl ?_
  refine wk_e2 e1 ?_
  refine wk_putR (hp_kd G o1) 3 (flJ7_177 _ hk2.1 hk2.2) (flJ7_177_t _ hk2.1 hk2.2).1 (Or.inl (flJ7_177_t _ hk2.1 hk2.2).2.1) rfl hA3 dJ7_resize_294 ?_
  exact (wk_sub [(0, vR (some a0)), (1, vR a1), (2, vI x2), (4, vI x4), (6, vR a6), (7, vI x7), (8, vR a8), (9, vR a9), (10, vR a10), (11, vR a11), (13, vR a13)] ⟨rfl, rfl, rfl, rfl, rfl, rfl, rfl, rfl, rfl, rfl, rfl, trivial⟩ k)
theorem blJ7_resize_297 {w : WD} {j : JB} {r : Nat} {G : GH} {a0 : Nat} {a1 : Option Nat} {x2 : Int32} {x4 : Int32} {a6 : Option Nat} {x7 : Int32} {a8 : Option Nat} {a9 : Option Nat} {a10 : Option Nat} {a11 : Option Nat} {a13 : Option Nat}
    (k : wk_V w mJ7_resize j 301 [(0, vR (some a0)), (1, vR a1), (2, vI x2), (4, vI x4), (6, vR a6), (7, vI x7), (9, vR a9), (10, vR a10), (11, vR a11), (12, vR a8), (13, vR a13)] [] G r)
    : wk_V w mJ7_resize j 297 [(0, vR (some a0)), (1, vR a1), (2, vI x2), (4, vI x4), (6, vR a6), (7, vI x7), (8, vR a8), (9, vR a9), (10, vR a10), (11, vR a11), (13, vR a13)] [] G r := by
  refine wk_aload dJ7_resize_297 rfl ?_
  refine wk_astore dJ7_resize_299 (Nat.le_of_ble_eq_true rfl) ?_
  exact (wk_sub [(0, vR (some a0)), (1, vR a1), (2, vI x2), (4, vI x4), (6, vR a6), (7, vI x7), (9, vR a9), (10, vR a10), (11, vR a11), (12, vR a8), (13, vR a13)] ⟨rfl, rfl, rfl, rfl, rfl, rfl, rfl, rfl, rfl, rfl, rfl, trivial⟩ k)
theorem blJ7_resize_301 {w : WD} {j : JB} {r : Nat} {G : GH} {a0 : Nat} {a1 : Option Nat} {x2 : Int32} {x4 : Int32} {a6 : Option Nat} {x7 : Int32} {a9 : Option Nat} {a10 : Option Nat} {a11 : Option Nat} {a12 : Option Nat} {a13 : Option Nat}
    (kt : ∀ o9, a13 = some o9 → wk_V w mJ7_resize j 235 [(0, vR (some a0)), (1, vR a1), (2, vI x2), (4, vI x4), (6, vR a6), (7, vI x7), (8, vR a13), (9, vR a9), (10, vR a10), (11, vR a11), (12, vR a12)] [] G r)
    (kf : a13 = none → wk_V w mJ7_resize j 309 [(0, vR (some a0)), (1, vR a1), (2, vI x2), (4, vI x4), (6, vR a6), (7, vI x7), (9, vR a9), (10, vR a10), (11, vR a11), (12, vR a12)] [] G r)
    : wk_V w mJ7_resize j 301 [(0, vR (some a0)), (1, vR a1), (2, vI x2), (4, vI x4), (6, vR a6), (7, vI x7), (9, vR a9), (10, vR a10), (11, vR a11), (12, vR a12), (13, vR a13)] [] G r := by
  refine wk_aload dJ7_resize_301 rfl ?_
  refine wk_dup dJ7_resize_303 rfl ?_
  refine wk_astore dJ7_resize_304 (Nat.le_of_ble_eq_true rfl) ?_
  exact wk_ifnonnull 235 dJ7_resize_306 (by decide) (fun o9 h => (wk_sub [(0, vR (some a0)), (1, vR a1), (2, vI x2), (4, vI x4), (6, vR a6), (7, vI x7), (8, vR a13), (9, vR a9), (10, vR a10), (11, vR a11), (12, vR a12)] ⟨rfl, rfl, rfl, rfl, rfl, rfl, rfl, rfl, rfl, rfl, rfl, trivial⟩ (kt o9 h))) (fun h => (wk_sub [(0, vR (some a0)), (1, vR a1), (2, vI x2), (4, vI x4), (6, vR a6), (7, vI x7), (9, vR a9), (10, vR a10), (11, vR a11), (12, vR a12)] ⟨rfl, rfl, rfl, rfl, rfl, rfl, rfl, rfl, rfl, rfl, trivial⟩ (kf h)))
theorem blJ7_resize_309 {w : WD} {j : JB} {r : Nat} {G : GH} {a0 : Nat} {a1 : Option Nat} {x2 : Int32} {x4 : Int32} {a6 : Option Nat} {x7 : Int32} {a9 : Option Nat} {a10 : Option Nat} {a11 : Option Nat} {a12 : Option Nat}
    (kt : a10 = none → wk_V w mJ7_resize j 327 [(0, vR (some a0)), (1, vR a1), (2, vI x2), (4, vI x4), (6, vR a6), (7, vI x7), (11, vR a11), (12, vR a12)] [] G r)
    (kf : ∀ o9, a10 = some o9 → wk_V w mJ7_resize j 314 [(0, vR (some a0)), (1, vR a1), (2, vI x2), (4, vI x4), (6, vR a6), (7, vI x7), (9, vR a9), (10, vR a10), (11, vR a11), (12, vR a12)] [] G r)
    : wk_V w mJ7_resize j 309 [(0, vR (some a0)), (1, vR a1), (2, vI x2), (4, vI x4), (6, vR a6), (7, vI x7), (9, vR a9), (10, vR a10), (11, vR a11), (12, vR a12)] [] G r := by
  refine wk_aload dJ7_resize_309 rfl ?_
  exact wk_ifnull 327 dJ7_resize_311 (by decide) (fun h => (wk_sub [(0, vR (some a0)), (1, vR a1), (2, vI x2), (4, vI x4), (6, vR a6), (7, vI x7), (11, vR a11), (12, vR a12)] ⟨rfl, rfl, rfl, rfl, rfl, rfl, rfl, rfl, trivial⟩ (kt h))) (fun o9 h => (kf o9 h))
theorem blJ7_resize_314 {w : WD} {j : JB} {r : Nat} {G : GH} {a0 : Nat} {a1 : Option Nat} {x2 : Int32} {x4 : Int32} {a6 : Option Nat} {x7 : Int32} {a9 : Option Nat} {a10 : Option Nat} {a11 : Option Nat} {a12 : Option Nat} {o1 : Nat} {o4 : Nat} {T8 : String}
    (e1 : a10 = some o1)
    (hk2 : 24 ≤ hp_kd G o1 ∧ hp_kd G o1 ≤ 25)
    (hA3 : hp_A w o1)
    (e4 : a6 = some o4)
    (hi5 : vp_in x7 (hp_ln G o4))
    (hA6 : hp_A w o4)
    (hk7 : 32 ≤ hp_kd G o4)
    (hT9 : hp_at (hp_kd G o4) = .object T8)
    (hx10 : ∀ b, a9 = some b → hp_kd G b ≠ 0 ∧ hp_kd G b < 28 ∧ hp_sub (hp_kd G b) T8)
    (k : wk_V w mJ7_resize j 327 [(0, vR (some a0)), (1, vR a1), (2, vI x2), (4, vI x4), (6, vR a6), (7, vI x7), (11, vR a11), (12, vR a12)] [] (hp_sR (hp_sR G o1 3 none) o4 x7.toNatClampNeg a9) r)
    : wk_V w mJ7_resize j 314 [(0, vR (some a0)), (1, vR a1), (2, vI x2), (4, vI x4), (6, vR a6), (7, vI x7), (9, vR a9), (10, vR a10), (11, vR a11), (12, vR a12)] [] G r := by
  refine wk_aload dJ7_resize_314 rfl ?_
  refine wk_null dJ7_resize_316 ?_
  refine wk_e2 e1 ?_
  refine wk_putR (hp_kd G o1) 3 (flJ7_177 _ hk2.1 hk2.2) (flJ7_177_t _ hk2.1 hk2.2).1 (Or.inl (flJ7_177_t _ hk2.1 hk2.2).2.1) rfl hA3 dJ7_resize_317 ?_
  refine wk_aload dJ7_resize_320 rfl ?_
  refine wk_iload dJ7_resize_322 rfl ?_
  refine wk_aload dJ7_resize_324 rfl ?_
  refine wk_e3 e4 ?_
  refine wk_aast hk7 hT9 hA6 hi5 hx10 dJ7_resize_326 ?_
  exact (wk_sub [(0, vR (some a0)), (1, vR a1), (2, vI x2), (4, vI x4), (6, vR a6), (7, vI x7), (11, vR a11), (12, vR a12)] ⟨rfl, rfl, rfl, rfl, rfl, rfl, rfl, rfl, trivial⟩ k)
theorem blJ7_resize_327 {w : WD} {j : JB} {r : Nat} {G : GH} {a0 : Nat} {a1 : Option Nat} {x2 : Int32} {x4 : Int32} {a6 : Option Nat} {x7 : Int32} {a11 : Option Nat} {a12 : Option Nat}
    (kt : a12 = none → wk_V w mJ7_resize j 347 [(0, vR (some a0)), (1, vR a1), (2, vI x2), (4, vI x4), (6, vR a6), (7, vI x7)] [] G r)
    (kf : ∀ o9, a12 = some o9 → wk_V w mJ7_resize j 332 [(0, vR (some a0)), (1, vR a1), (2, vI x2), (4, vI x4), (6, vR a6), (7, vI x7), (11, vR a11), (12, vR a12)] [] G r)
    : wk_V w mJ7_resize j 327 [(0, vR (some a0)), (1, vR a1), (2, vI x2), (4, vI x4), (6, vR a6), (7, vI x7), (11, vR a11), (12, vR a12)] [] G r := by
  refine wk_aload dJ7_resize_327 rfl ?_
  exact wk_ifnull 347 dJ7_resize_329 (by decide) (fun h => (wk_sub [(0, vR (some a0)), (1, vR a1), (2, vI x2), (4, vI x4), (6, vR a6), (7, vI x7)] ⟨rfl, rfl, rfl, rfl, rfl, rfl, trivial⟩ (kt h))) (fun o9 h => (kf o9 h))
theorem blJ7_resize_332 {w : WD} {j : JB} {r : Nat} {G : GH} {a0 : Nat} {a1 : Option Nat} {x2 : Int32} {x4 : Int32} {a6 : Option Nat} {x7 : Int32} {a11 : Option Nat} {a12 : Option Nat} {o1 : Nat} {o4 : Nat} {T8 : String}
    (e1 : a12 = some o1)
    (hk2 : 24 ≤ hp_kd G o1 ∧ hp_kd G o1 ≤ 25)
    (hA3 : hp_A w o1)
    (e4 : a6 = some o4)
    (hi5 : vp_in (x7 + x2) (hp_ln G o4))
    (hA6 : hp_A w o4)
    (hk7 : 32 ≤ hp_kd G o4)
    (hT9 : hp_at (hp_kd G o4) = .object T8)
    (hx10 : ∀ b, a11 = some b → hp_kd G b ≠ 0 ∧ hp_kd G b < 28 ∧ hp_sub (hp_kd G b) T8)
    (k : wk_V w mJ7_resize j 347 [(0, vR (some a0)), (1, vR a1), (2, vI x2), (4, vI x4), (6, vR a6), (7, vI x7)] [] (hp_sR (hp_sR G o1 3 none) o4 (x7 + x2).toNatClampNeg a11) r)
    : wk_V w mJ7_resize j 332 [(0, vR (some a0)), (1, vR a1), (2, vI x2), (4, vI x4), (6, vR a6), (7, vI x7), (11, vR a11), (12, vR a12)] [] G r := by
  refine wk_aload dJ7_resize_332 rfl ?_
  refine wk_null dJ7_resize_334 ?_
  refine wk_e2 e1 ?_
  refine wk_putR (hp_kd G o1) 3 (flJ7_177 _ hk2.1 hk2.2) (flJ7_177_t _ hk2.1 hk2.2).1 (Or.inl (flJ7_177_t _ hk2.1 hk2.2).2.1) rfl hA3 dJ7_resize_335 ?_
  refine wk_aload dJ7_resize_338 rfl ?_
  refine wk_iload dJ7_resize_340 rfl ?_
  refine wk_iload_n 2 dJ7_resize_342 rfl rfl ?_
  refine wk_iadd dJ7_resize_343 ?_
  refine wk_aload dJ7_resize_344 rfl ?_
  refine wk_e3 e4 ?_
  refine wk_aast hk7 hT9 hA6 hi5 hx10 dJ7_resize_346 ?_
  exact (wk_sub [(0, vR (some a0)), (1, vR a1), (2, vI x2), (4, vI x4), (6, vR a6), (7, vI x7)] ⟨rfl, rfl, rfl, rfl, rfl, rfl, trivial⟩ k)
theorem blJ7_resize_347 {w : WD} {j : JB} {r : Nat} {G : GH} {a0 : Nat} {a1 : Option Nat} {x2 : Int32} {x4 : Int32} {a6 : Option Nat} {x7 : Int32}
    (k : wk_V w mJ7_resize j 151 [(0, vR (some a0)), (1, vR a1), (2, vI x2), (4, vI x4), (6, vR a6), (7, vI (x7 + (1 : Int32)))] [] G r)
    : wk_V w mJ7_resize j 347 [(0, vR (some a0)), (1, vR a1), (2, vI x2), (4, vI x4), (6, vR a6), (7, vI x7)] [] G r := by
  refine wk_iincC (1 : Int32) dJ7_resize_347 rfl (by decide) (Nat.le_of_ble_eq_true rfl) ?_
  exact wk_goto 151 dJ7_resize_350 (by decide) k
theorem blJ7_resize_353 {w : WD} {j : JB} {r : Nat} {G : GH} {a6 : Option Nat}
    (hP : j.2.2.1 (some (vR a6)) G)
    : wk_V w mJ7_resize j 353 [(6, vR a6)] [] G r := by
  refine wk_aload dJ7_resize_353 rfl ?_
  exact wk_areturn rfl (Or.inr ⟨_, rfl⟩) dJ7_resize_355 hP
/-! java/util/HashMap.treeifyBin([Ljava/util/HashMap$Node;I)V -/
theorem blJ7_treeifyBin_0 {w : WD} {j : JB} {r : Nat} {G : GH} {a0 : Nat} {a1 : Option Nat} {x2 : Int32}
    (kt : a1 = none → wk_V w mJ7_treeifyBin j 13 [(0, vR (some a0))] [] G r)
    (kf : ∀ o9, a1 = some o9 → wk_V w mJ7_treeifyBin j 4 [(0, vR (some a0)), (1, vR a1), (2, vI x2)] [] G r)
    : wk_V w mJ7_treeifyBin j 0 [(0, vR (some a0)), (1, vR a1), (2, vI x2)] [] G r := by
  refine wk_aload_n 1 dJ7_treeifyBin_0 rfl rfl ?_
  exact wk_ifnull 13 dJ7_treeifyBin_1 (by decide) (fun h => (wk_sub [(0, vR (some a0))] ⟨rfl, trivial⟩ (kt h))) (fun o9 h => (kf o9 h))
theorem blJ7_treeifyBin_4 {w : WD} {j : JB} {r : Nat} {G : GH} {a0 : Nat} {a1 : Option Nat} {x2 : Int32} {o1 : Nat}
    (e1 : a1 = some o1)
    (hk2 : 28 ≤ hp_kd G o1)
    (kt : (64 : Int32) ≤ (nI (hp_ln G o1)) → wk_V w mJ7_treeifyBin j 21 [(0, vR (some a0)), (1, vR a1), (2, vI x2), (3, vI (nI (hp_ln G o1)))] [] G r)
    (kf : ¬ ((64 : Int32) ≤ (nI (hp_ln G o1))) → wk_V w mJ7_treeifyBin j 13 [(0, vR (some a0))] [] G r)
    : wk_V w mJ7_treeifyBin j 4 [(0, vR (some a0)), (1, vR a1), (2, vI x2)] [] G r := by
  refine wk_aload_n 1 dJ7_treeifyBin_4 rfl rfl ?_
  refine wk_e e1 ?_
  refine wk_alen hk2 dJ7_treeifyBin_5 ?_
  refine wk_dup dJ7_treeifyBin_6 rfl ?_
  refine wk_istore_n 3 dJ7_treeifyBin_7 rfl (Nat.le_of_ble_eq_true rfl) ?_
  refine wk_bipush (64 : Int32) dJ7_treeifyBin_8 (by decide) ?_
  exact wk_icmp_ge 21 dJ7_treeifyBin_10 (by decide) (fun h => (kt h)) (fun h => (wk_sub [(0, vR (some a0))] ⟨rfl, trivial⟩ (kf h)))
theorem blJ7_treeifyBin_13 {w : WD} {j : JB} {r : Nat} {G : GH} {a0 : Nat} {d' b' : Nat} {P : Option WV → GH → Prop} {PX : String → Nat → GH → Prop}
    (hkr : hp_kd G a0 = 23)
    (hC : wk_C w mJ7_resize d' b' [vR (some a0)] G P PX)
    (hdp : d' + 1 ≤ j.1)
    (hb : b' ≤ r)
    (kr : ∀ v G', P v G' → wk_V w mJ7_treeifyBin j 17 [] (v.toList ++ []) G' (r - b'))
    (kx : ∀ E q G', PX E q G' → wk_T w mJ7_treeifyBin j 14 [(0, vR (some a0))] G' (r - b') E q)
    : wk_V w mJ7_treeifyBin j 13 [(0, vR (some a0))] [] G r := by
  refine wk_aload_n 0 dJ7_treeifyBin_13 rfl rfl ?_
  exact wk_callV hC rfl q1569 q1570 q1571 q119 q1572 mdJ7_resize (Nat.le_of_ble_eq_true rfl) ⟨by show hp_kd G a0 ≠ 0; rw [hkr]; decide, by show hp_kd G a0 < 28; rw [hkr]; decide, by show hp_C (hp_kd G a0) = _; rw [hkr]; rfl⟩ rfl rfl (Nat.le_of_ble_eq_true rfl) hdp hb dJ7_treeifyBin_14 (fun v G' h => (wk_sub [] trivial (kr v G' h))) kx
theorem blJ7_treeifyBin_17 {w : WD} {j : JB} {r : Nat} {G : GH} {sa0 : Option Nat}
    (k : wk_V w mJ7_treeifyBin j 109 [] [] G r)
    : wk_V w mJ7_treeifyBin j 17 [] [vR sa0] G r := by
  refine wk_pop dJ7_treeifyBin_17 rfl ?_
  exact wk_goto 109 dJ7_treeifyBin_18 (by decide) k
theorem blJ7_treeifyBin_21 {w : WD} {j : JB} {r : Nat} {G : GH} {a0 : Nat} {a1 : Option Nat} {x2 : Int32} {x3 : Int32} {o1 : Nat}
    (e1 : a1 = some o1)
    (hi2 : vp_in ((x3 - (1 : Int32)) &&& x2) (hp_ln G o1))
    (hk3 : 32 ≤ hp_kd G o1)
    (kt : (hp_r G o1 ((x3 - (1 : Int32)) &&& x2).toNatClampNeg) = none → wk_V w mJ7_treeifyBin j 109 [] [] G r)
    (kf : ∀ o9, (hp_r G o1 ((x3 - (1 : Int32)) &&& x2).toNatClampNeg) = some o9 → wk_V w mJ7_treeifyBin j 37 [(0, vR (some a0)), (1, vR a1), (4, vI ((x3 - (1 : Int32)) &&& x2)), (5, vR (hp_r G o1 ((x3 - (1 : Int32)) &&& x2).toNatClampNeg))] [] G r)
    : wk_V w mJ7_treeifyBin j 21 [(0, vR (some a0)), (1, vR a1), (2, vI x2), (3, vI x3)] [] G r := by
  refine wk_aload_n 1 dJ7_treeifyBin_21 rfl rfl ?_
  refine wk_iload_n 3 dJ7_treeifyBin_22 rfl rfl ?_
  refine wk_iconst (1 : Int32) dJ7_treeifyBin_23 (by decide) ?_
  refine wk_isub dJ7_treeifyBin_24 ?_
  refine wk_iload_n 2 dJ7_treeifyBin_25 rfl rfl ?_
  refine wk_iand dJ7_treeifyBin_26 ?_
  refine wk_dup dJ7_treeifyBin_27 rfl ?_
  refine wk_istore dJ7_treeifyBin_28 (Nat.le_of_ble_eq_true rfl) ?_
  refine wk_e2 e1 ?_
  refine wk_aald hk3 hi2 dJ7_treeifyBin_30 ?_
  refine wk_dup dJ7_treeifyBin_31 rfl ?_
  refine wk_astore dJ7_treeifyBin_32 (Nat.le_of_ble_eq_true rfl) ?_
  exact wk_ifnull 109 dJ7_treeifyBin_34 (by decide) (fun h => (wk_sub [] trivial (kt h))) (fun o9 h => (wk_sub [(0, vR (some a0)), (1, vR a1), (4, vI ((x3 - (1 : Int32)) &&& x2)), (5, vR (hp_r G o1 ((x3 - (1 : Int32)) &&& x2).toNatClampNeg))] ⟨rfl, rfl, rfl, rfl, trivial⟩ (kf o9 h)))
theorem blJ7_treeifyBin_37 {w : WD} {j : JB} {r : Nat} {G : GH} {a0 : Nat} {a1 : Option Nat} {x4 : Int32} {a5 : Option Nat}
    (k : wk_V w mJ7_treeifyBin j 43 [(0, vR (some a0)), (1, vR a1), (4, vI x4), (5, vR a5), (6, vR none), (7, vR none)] [] G r)
    : wk_V w mJ7_treeifyBin j 37 [(0, vR (some a0)), (1, vR a1), (4, vI x4), (5, vR a5)] [] G r := by
  refine wk_null dJ7_treeifyBin_37 ?_
  refine wk_astore dJ7_treeifyBin_38 (Nat.le_of_ble_eq_true rfl) ?_
  refine wk_null dJ7_treeifyBin_40 ?_
  refine wk_astore dJ7_treeifyBin_41 (Nat.le_of_ble_eq_true rfl) ?_
  exact k
theorem blJ7_treeifyBin_43 {w : WD} {j : JB} {r : Nat} {G : GH} {a0 : Nat} {a1 : Option Nat} {x4 : Int32} {a5 : Option Nat} {a6 : Option Nat} {a7 : Option Nat} {d' b' : Nat} {P : Option WV → GH → Prop} {PX : String → Nat → GH → Prop}
    (hkr : hp_kd G a0 = 23)
    (hC : wk_C w mJ7_replacementTreeNode d' b' [vR (some a0), vR a5, vR none] G P PX)
    (hdp : d' + 1 ≤ j.1)
    (hb : b' ≤ r)
    (kr : ∀ v G', P v G' → wk_V w mJ7_treeifyBin j 50 [(0, vR (some a0)), (1, vR a1), (4, vI x4), (5, vR a5), (6, vR a6), (7, vR a7)] (v.toList ++ []) G' (r - b'))
    (kx : ∀ E q G', PX E q G' → wk_T w mJ7_treeifyBin j 47 [(0, vR (some a0)), (1, vR a1), (4, vI x4), (5, vR a5), (6, vR a6), (7, vR a7)] G' (r - b') E q)
    : wk_V w mJ7_treeifyBin j 43 [(0, vR (some a0)), (1, vR a1), (4, vI x4), (5, vR a5), (6, vR a6), (7, vR a7)] [] G r := by
  refine wk_aload_n 0 dJ7_treeifyBin_43 rfl rfl ?_
  refine wk_aload dJ7_treeifyBin_44 rfl ?_
  refine wk_null dJ7_treeifyBin_46 ?_
  exact wk_callV hC rfl q1688 q1689 q1690 q119 q1691 mdJ7_replacementTreeNode (Nat.le_of_ble_eq_true rfl) ⟨by show hp_kd G a0 ≠ 0; rw [hkr]; decide, by show hp_kd G a0 < 28; rw [hkr]; decide, by show hp_C (hp_kd G a0) = _; rw [hkr]; rfl⟩ rfl rfl (Nat.le_of_ble_eq_true rfl) hdp hb dJ7_treeifyBin_47 kr kx
theorem blJ7_treeifyBin_50 {w : WD} {j : JB} {r : Nat} {G : GH} {a0 : Nat} {a1 : Option Nat} {x4 : Int32} {a5 : Option Nat} {a6 : Option Nat} {a7 : Option Nat} {sa0 : Option Nat}
    (kt : ∀ o9, a7 = some o9 → wk_V w mJ7_treeifyBin j 64 [(0, vR (some a0)), (1, vR a1), (4, vI x4), (5, vR a5), (6, vR a6), (7, vR a7), (8, vR sa0)] [] G r)
    (kf : a7 = none → wk_V w mJ7_treeifyBin j 57 [(0, vR (some a0)), (1, vR a1), (4, vI x4), (5, vR a5), (8, vR sa0)] [] G r)
    : wk_V w mJ7_treeifyBin j 50 [(0, vR (some a0)), (1, vR a1), (4, vI x4), (5, vR a5), (6, vR a6), (7, vR a7)] [vR sa0] G r := by
  refine wk_astore dJ7_treeifyBin_50 (Nat.le_of_ble_eq_true rfl) ?_
  refine wk_aload dJ7_treeifyBin_52 rfl ?_
  exact wk_ifnonnull 64 dJ7_treeifyBin_54 (by decide) (fun o9 h => (kt o9 h)) (fun h => (wk_sub [(0, vR (some a0)), (1, vR a1), (4, vI x4), (5, vR a5), (8, vR sa0)] ⟨rfl, rfl, rfl, rfl, rfl, trivial⟩ (kf h)))
theorem blJ7_treeifyBin_57 {w : WD} {j : JB} {r : Nat} {G : GH} {a0 : Nat} {a1 : Option Nat} {x4 : Int32} {a5 : Option Nat} {a8 : Option Nat}
    (k : wk_V w mJ7_treeifyBin j 78 [(0, vR (some a0)), (1, vR a1), (4, vI x4), (5, vR a5), (6, vR a8), (8, vR a8)] [] G r)
    : wk_V w mJ7_treeifyBin j 57 [(0, vR (some a0)), (1, vR a1), (4, vI x4), (5, vR a5), (8, vR a8)] [] G r := by
  refine wk_aload dJ7_treeifyBin_57 rfl ?_
  refine wk_astore dJ7_treeifyBin_59 (Nat.le_of_ble_eq_true rfl) ?_
  exact wk_goto 78 dJ7_treeifyBin_61 (by decide) k
theorem blJ7_treeifyBin_64 {w : WD} {j : JB} {r : Nat} {G : GH} {a0 : Nat} {a1 : Option Nat} {x4 : Int32} {a5 : Option Nat} {a6 : Option Nat} {a7 : Option Nat} {a8 : Option Nat} {o1 : Nat} {o4 : Nat}
    (e1 : a8 = some o1)
    (hk2 : hp_kd G o1 = 25)
    (hA3 : hp_A w o1)
    (e4 : a7 = some o4)
    (hk5 : hp_kd G o4 = 25)
    (hA6 : hp_A w o4)
    (k : wk_V w mJ7_treeifyBin j 78 [(0, vR (some a0)), (1, vR a1), (4, vI x4), (5, vR a5), (6, vR a6), (8, vR a8)] [] (hp_sR (hp_sR G o1 7 a7) o4 3 a8) r)
    : wk_V w mJ7_treeifyBin j 64 [(0, vR (some a0)), (1, vR a1), (4, vI x4), (5, vR a5), (6, vR a6), (7, vR a7), (8, vR a8)] [] G r := by
  refine wk_aload dJ7_treeifyBin_64 rfl ?_
  refine wk_aload dJ7_treeifyBin_66 rfl ?_
  refine wk_e2 e1 ?_
  refine wk_putR 25 7 flJ7_219 rfl (Or.inl rfl) hk2 hA3 dJ7_treeifyBin_68 ?_
  refine wk_aload dJ7_treeifyBin_71 rfl ?_
  refine wk_aload dJ7_treeifyBin_73 rfl ?_
  refine wk_e2 e4 ?_
  refine wk_putR 25 3 flJ7_223 rfl (Or.inl rfl) hk5 hA6 dJ7_treeifyBin_75 ?_
  exact (wk_sub [(0, vR (some a0)), (1, vR a1), (4, vI x4), (5, vR a5), (6, vR a6), (8, vR a8)] ⟨rfl, rfl, rfl, rfl, rfl, rfl, trivial⟩ k)
theorem blJ7_treeifyBin_78 {w : WD} {j : JB} {r : Nat} {G : GH} {a0 : Nat} {a1 : Option Nat} {x4 : Int32} {a5 : Option Nat} {a6 : Option Nat} {a8 : Option Nat} {o1 : Nat}
    (e1 : a5 = some o1)
    (hk2 : 24 ≤ hp_kd G o1 ∧ hp_kd G o1 ≤ 25)
    (kt : ∀ o9, (hp_r G o1 3) = some o9 → wk_V w mJ7_treeifyBin j 43 [(0, vR (some a0)), (1, vR a1), (4, vI x4), (5, vR (hp_r G o1 3)), (6, vR a6), (7, vR a8)] [] G r)
    (kf : (hp_r G o1 3) = none → wk_V w mJ7_treeifyBin j 93 [(1, vR a1), (4, vI x4), (6, vR a6)] [] G r)
    : wk_V w mJ7_treeifyBin j 78 [(0, vR (some a0)), (1, vR a1), (4, vI x4), (5, vR a5), (6, vR a6), (8, vR a8)] [] G r := by
  refine wk_aload dJ7_treeifyBin_78 rfl ?_
  refine wk_astore dJ7_treeifyBin_80 (Nat.le_of_ble_eq_true rfl) ?_
  refine wk_aload dJ7_treeifyBin_82 rfl ?_
  refine wk_e e1 ?_
  refine wk_getR (hp_kd G o1) 3 (flJ7_177 _ hk2.1 hk2.2) (flJ7_177_t _ hk2.1 hk2.2).1 rfl dJ7_treeifyBin_84 ?_
  refine wk_dup dJ7_treeifyBin_87 rfl ?_
  refine wk_astore dJ7_treeifyBin_88 (Nat.le_of_ble_eq_true rfl) ?_
  exact wk_ifnonnull 43 dJ7_treeifyBin_90 (by decide) (fun o9 h => (wk_sub [(0, vR (some a0)), (1, vR a1), (4, vI x4), (5, vR (hp_r G o1 3)), (6, vR a6), (7, vR a8)] ⟨rfl, rfl, rfl, rfl, rfl, rfl, trivial⟩ (kt o9 h))) (fun h => (wk_sub [(1, vR a1), (4, vI x4), (6, vR a6)] ⟨rfl, rfl, rfl, trivial⟩ (kf h)))
theorem blJ7_treeifyBin_93 {w : WD} {j : JB} {r : Nat} {G : GH} {a1 : Option Nat} {x4 : Int32} {a6 : Option Nat} {o1 : Nat} {T5 : String}
    (e1 : a1 = some o1)
    (hi2 : vp_in x4 (hp_ln G o1))
    (hA3 : hp_A w o1)
    (hk4 : 32 ≤ hp_kd G o1)
    (hT6 : hp_at (hp_kd G o1) = .object T5)
    (hx7 : ∀ b, a6 = some b → hp_kd G b ≠ 0 ∧ hp_kd G b < 28 ∧ hp_sub (hp_kd G b) T5)
    (kt : a6 = none → wk_V w mJ7_treeifyBin j 109 [] [] (hp_sR G o1 x4.toNatClampNeg a6) r)
    (kf : ∀ o9, a6 = some o9 → wk_V w mJ7_treeifyBin j 103 [(1, vR a1), (6, vR a6)] [] (hp_sR G o1 x4.toNatClampNeg a6) r)
    : wk_V w mJ7_treeifyBin j 93 [(1, vR a1), (4, vI x4), (6, vR a6)] [] G r := by
  refine wk_aload_n 1 dJ7_treeifyBin_93 rfl rfl ?_
  refine wk_iload dJ7_treeifyBin_94 rfl ?_
  refine wk_aload dJ7_treeifyBin_96 rfl ?_
  refine wk_dup_x2 dJ7_treeifyBin_98 rfl rfl rfl ?_
  refine wk_e3 e1 ?_
  refine wk_aast hk4 hT6 hA3 hi2 hx7 dJ7_treeifyBin_99 ?_
  exact wk_ifnull 109 dJ7_treeifyBin_100 (by decide) (fun h => (wk_sub [] trivial (kt h))) (fun o9 h => (wk_sub [(1, vR a1), (6, vR a6)] ⟨rfl, rfl, trivial⟩ (kf o9 h)))
theorem blJ7_treeifyBin_103 {w : WD} {j : JB} {r : Nat} {G : GH} {a1 : Option Nat} {a6 : Option Nat} {o1 : Nat} {d' b' : Nat} {P : Option WV → GH → Prop} {PX : String → Nat → GH → Prop}
    (e1 : a6 = some o1)
    (hkr : hp_kd G o1 = 25)
    (hC : wk_C w mJ26_treeify d' b' [vR (some o1), vR a1] G P PX)
    (hdp : d' + 1 ≤ j.1)
    (hb : b' ≤ r)
    (kr : ∀ v G', P v G' → wk_V w mJ7_treeifyBin j 109 [] (v.toList ++ []) G' (r - b'))
    (kx : ∀ E q G', PX E q G' → wk_T w mJ7_treeifyBin j 106 [(1, vR a1), (6, vR a6)] G' (r - b') E q)
    : wk_V w mJ7_treeifyBin j 103 [(1, vR a1), (6, vR a6)] [] G r := by
  refine wk_aload dJ7_treeifyBin_103 rfl ?_
  refine wk_aload_n 1 dJ7_treeifyBin_105 rfl rfl ?_
  refine wk_eAt 1 e1 rfl ?_
  exact wk_callV hC rfl q1692 q1622 q1623 q149 q1624 mdJ26_treeify (Nat.le_of_ble_eq_true rfl) ⟨by show hp_kd G o1 ≠ 0; rw [hkr]; decide, by show hp_kd G o1 < 28; rw [hkr]; decide, by show hp_C (hp_kd G o1) = _; rw [hkr]; rfl⟩ rfl rfl (Nat.le_of_ble_eq_true rfl) hdp hb dJ7_treeifyBin_106 (fun v G' h => (wk_sub [] trivial (kr v G' h))) kx
theorem blJ7_treeifyBin_109 {w : WD} {j : JB} {r : Nat} {G : GH}
    (hP : j.2.2.1 none G)
    : wk_V w mJ7_treeifyBin j 109 [] [] G r := by
  exact wk_return rfl dJ7_treeifyBin_109 hP
/-! java/lang/AbstractStringBuilder.append(C)Ljava/lang/AbstractStringBuilder; -/
theorem blJ11_append_0 {w : WD} {j : JB} {r : Nat} {G : GH} {a0 : Nat} {x1 : Int32} {d' b' : Nat} {P : Option WV → GH → Prop} {PX : String → Nat → GH → Prop}
    (hk1 : hp_kd G a0 = 27)
    (hC : wk_C w mJ11_ensureCapacityInternal d' b' [vR (some a0), vI ((hp_i G a0 3) + (1 : Int32))] G P PX)
    (hdp : d' + 1 ≤ j.1)
    (hb : b' ≤ r)
    (kr : ∀ v G', P v G' → wk_V w mJ11_append j 10 [(0, vR (some a0)), (1, vI x1)] (v.toList ++ []) G' (r - b'))
    (kx : ∀ E q G', PX E q G' → wk_T w mJ11_append j 7 [(0, vR (some a0)), (1, vI x1)] G' (r - b') E q)
    : wk_V w mJ11_append j 0 [(0, vR (some a0)), (1, vI x1)] [] G r := by
  refine wk_aload_n 0 dJ11_append_0 rfl rfl ?_
  refine wk_aload_n 0 dJ11_append_1 rfl rfl ?_
  refine wk_getI 27 3 flJ11_79 rfl hk1 dJ11_append_2 ?_
  refine wk_iconst (1 : Int32) dJ11_append_5 (by decide) ?_
  refine wk_iadd dJ11_append_6 ?_
  exact wk_callP (n := 1) hC rfl q583 q3216 q585 (by decide +kernel) q127 q586 mdJ11_ensureCapacityInternal (Nat.le_of_ble_eq_true rfl) hk1 rfl rfl (Nat.le_of_ble_eq_true rfl) hdp hb dJ11_append_7 kr kx
theorem blJ11_append_10 {w : WD} {j : JB} {r : Nat} {G : GH} {a0 : Nat} {x1 : Int32} {d' b' : Nat} {P : Option WV → GH → Prop} {PX : String → Nat → GH → Prop}
    (hkr : hp_kd G a0 = 27)
    (hC : wk_C w mJ11_isLatin1 d' b' [vR (some a0)] G P PX)
    (hdp : d' + 1 ≤ j.1)
    (hb : b' ≤ r)
    (kr : ∀ v G', P v G' → wk_V w mJ11_append j 14 [(0, vR (some a0)), (1, vI x1)] (v.toList ++ []) G' (r - b'))
    (kx : ∀ E q G', PX E q G' → wk_T w mJ11_append j 11 [(0, vR (some a0)), (1, vI x1)] G' (r - b') E q)
    : wk_V w mJ11_append j 10 [(0, vR (some a0)), (1, vI x1)] [] G r := by
  refine wk_aload_n 0 dJ11_append_10 rfl rfl ?_
  exact wk_callU (n := 0) (x := ⟨"java/lang/AbstractStringBuilder", "isLatin1", "()Z"⟩) "java/lang/AbstractStringBuilder" hC rfl (Or.inr ⟨q619, _, _, _, q622⟩) q618 q620 q619 (by show Cond.selects (hp_C (hp_kd G a0)) _ _ ∈ lw_all; rw [hkr]; exact q621) q127 q622 (by decide +kernel) (Nat.le_of_ble_eq_true rfl) ⟨by show hp_kd G a0 ≠ 0; rw [hkr]; decide, by show hp_kd G a0 < 28; rw [hkr]; decide⟩ rfl rfl (Nat.le_of_ble_eq_true rfl) hdp hb dJ11_append_11 kr kx
theorem blJ11_append_14 {w : WD} {j : JB} {r : Nat} {G : GH} {a0 : Nat} {x1 : Int32} {s0 : Int32}
    (kt : s0 = 0 → wk_V w mJ11_append j 45 [(0, vR (some a0)), (1, vI x1)] [] G r)
    (kf : ¬ (s0 = 0) → wk_V w mJ11_append j 17 [(0, vR (some a0)), (1, vI x1)] [] G r)
    : wk_V w mJ11_append j 14 [(0, vR (some a0)), (1, vI x1)] [vI s0] G r := by
  exact wk_if_eq 45 dJ11_append_14 (by decide) (fun h => (kt h)) (fun h => (kf h))
theorem blJ11_append_17 {w : WD} {j : JB} {r : Nat} {G : GH} {a0 : Nat} {x1 : Int32} {d' b' : Nat} {P : Option WV → GH → Prop} {PX : String → Nat → GH → Prop}
    (hC : wk_C w mJ18_canEncode d' b' [vI x1] G P PX)
    (hdp : d' + 1 ≤ j.1)
    (hb : b' ≤ r)
    (kr : ∀ v G', P v G' → wk_V w mJ11_append j 21 [(0, vR (some a0)), (1, vI x1)] (v.toList ++ []) G' (r - b'))
    (kx : ∀ E q G', PX E q G' → wk_T w mJ11_append j 18 [(0, vR (some a0)), (1, vI x1)] G' (r - b') E q)
    : wk_V w mJ11_append j 17 [(0, vR (some a0)), (1, vI x1)] [] G r := by
  refine wk_iload_n 1 dJ11_append_17 rfl rfl ?_
  exact wk_callS hC rfl q623 q624 q135 q625 mdJ18_canEncode (Nat.le_of_ble_eq_true rfl) rfl rfl (Nat.le_of_ble_eq_true rfl) hdp hb dJ11_append_18 kr kx
theorem blJ11_append_21 {w : WD} {j : JB} {r : Nat} {G : GH} {a0 : Nat} {x1 : Int32} {s0 : Int32}
    (kt : s0 = 0 → wk_V w mJ11_append j 45 [(0, vR (some a0)), (1, vI x1)] [] G r)
    (kf : ¬ (s0 = 0) → wk_V w mJ11_append j 24 [(0, vR (some a0)), (1, vI x1)] [] G r)
    : wk_V w mJ11_append j 21 [(0, vR (some a0)), (1, vI x1)] [vI s0] G r := by
  exact wk_if_eq 45 dJ11_append_21 (by decide) (fun h => (kt h)) (fun h => (kf h))
theorem blJ11_append_24 {w : WD} {j : JB} {r : Nat} {G : GH} {a0 : Nat} {x1 : Int32} {o5 : Nat}
    (hk1 : hp_kd G a0 = 27)
    (hA4 : hp_A w a0)
    (e5 : (hp_r G a0 0) = some o5)
    (hi6 : vp_in (hp_i G a0 3) (hp_ln G o5))
    (hA7 : hp_A w o5)
    (hk8 : hp_kd G o5 = 30)
    (k : wk_V w mJ11_append j 42 [(0, vR (some a0))] [] (hp_sI (hp_sI G a0 3 ((hp_i G a0 3) + (1 : Int32))) o5 (hp_i G a0 3).toNatClampNeg x1.toInt8.toInt32.toInt8.toInt32) r)
    : wk_V w mJ11_append j 24 [(0, vR (some a0)), (1, vI x1)] [] G r := by
  refine wk_aload_n 0 dJ11_append_24 rfl rfl ?_
  refine wk_getR 27 0 flJ11_15 rfl hk1 dJ11_append_25 ?_
  refine wk_aload_n 0 dJ11_append_28 rfl rfl ?_
  refine wk_dup dJ11_append_29 rfl ?_
  refine wk_getI 27 3 flJ11_79 rfl hk1 dJ11_append_30 ?_
  refine wk_dup_x1 dJ11_append_33 rfl rfl ?_
  refine wk_iconst (1 : Int32) dJ11_append_34 (by decide) ?_
  refine wk_iadd dJ11_append_35 ?_
  refine wk_putI 27 3 flJ11_79 rfl (Or.inl rfl) hk1 hA4 ⟨rfl, rfl⟩ dJ11_append_36 ?_
  refine wk_iload_n 1 dJ11_append_39 rfl rfl ?_
  refine wk_i2b dJ11_append_40 ?_
  refine wk_e3 e5 ?_
  refine wk_bast hk8 hA7 hi6 dJ11_append_41 ?_
  exact (wk_sub [(0, vR (some a0))] ⟨rfl, trivial⟩ k)
theorem blJ11_append_42 {w : WD} {j : JB} {r : Nat} {G : GH} {a0 : Nat}
    (k : wk_V w mJ11_append j 75 [(0, vR (some a0))] [] G r)
    : wk_V w mJ11_append j 42 [(0, vR (some a0))] [] G r := by
  exact wk_goto 75 dJ11_append_42 (by decide) k
theorem blJ11_append_45 {w : WD} {j : JB} {r : Nat} {G : GH} {a0 : Nat} {x1 : Int32} {d' b' : Nat} {P : Option WV → GH → Prop} {PX : String → Nat → GH → Prop}
    (hkr : hp_kd G a0 = 27)
    (hC : wk_C w mJ11_isLatin1 d' b' [vR (some a0)] G P PX)
    (hdp : d' + 1 ≤ j.1)
    (hb : b' ≤ r)
    (kr : ∀ v G', P v G' → wk_V w mJ11_append j 49 [(0, vR (some a0)), (1, vI x1)] (v.toList ++ []) G' (r - b'))
    (kx : ∀ E q G', PX E q G' → wk_T w mJ11_append j 46 [(0, vR (some a0)), (1, vI x1)] G' (r - b') E q)
    : wk_V w mJ11_append j 45 [(0, vR (some a0)), (1, vI x1)] [] G r := by
  refine wk_aload_n 0 dJ11_append_45 rfl rfl ?_
  exact wk_callU (n := 0) (x := ⟨"java/lang/AbstractStringBuilder", "isLatin1", "()Z"⟩) "java/lang/AbstractStringBuilder" hC rfl (Or.inr ⟨q619, _, _, _, q622⟩) q618 q620 q619 (by show Cond.selects (hp_C (hp_kd G a0)) _ _ ∈ lw_all; rw [hkr]; exact q621) q127 q622 (by decide +kernel) (Nat.le_of_ble_eq_true rfl) ⟨by show hp_kd G a0 ≠ 0; rw [hkr]; decide, by show hp_kd G a0 < 28; rw [hkr]; decide⟩ rfl rfl (Nat.le_of_ble_eq_true rfl) hdp hb dJ11_append_46 kr kx
theorem blJ11_append_49 {w : WD} {j : JB} {r : Nat} {G : GH} {a0 : Nat} {x1 : Int32} {s0 : Int32}
    (kt : s0 = 0 → wk_V w mJ11_append j 56 [(0, vR (some a0)), (1, vI x1)] [] G r)
    (kf : ¬ (s0 = 0) → wk_V w mJ11_append j 52 [(0, vR (some a0)), (1, vI x1)] [] G r)
    : wk_V w mJ11_append j 49 [(0, vR (some a0)), (1, vI x1)] [vI s0] G r := by
  exact wk_if_eq 56 dJ11_append_49 (by decide) (fun h => (kt h)) (fun h => (kf h))
-- blJ11_append_52: left out (no receiver for ('java/lang/AbstractStringBuilder', 'inflate', '()V'))
-- blJ11_append_56: left out (callee ('java/lang/StringUTF16', 'putCharSB', '([BII)V'))
theorem blJ11_append_75 {w : WD} {j : JB} {r : Nat} {G : GH} {a0 : Nat}
    (hP : j.2.2.1 (some (vR (some a0))) G)
    : wk_V w mJ11_append j 75 [(0, vR (some a0))] [] G r := by
  refine wk_aload_n 0 dJ11_append_75 rfl rfl ?_
  exact wk_areturn rfl (Or.inl ⟨_, rfl⟩) dJ11_append_76 hP
/-! java/lang/AbstractStringBuilder.append(I)Ljava/lang/AbstractStringBuilder; -/
-- blJ11_append_2_0: left out (callee ('java/lang/Integer', 'stringSize', '(I)I'))
theorem blJ11_append_2_10 {w : WD} {j : JB} {r : Nat} {G : GH} {a0 : Nat} {x1 : Int32} {x2 : Int32} {s0 : Int32} {s1 : Int32} {d' b' : Nat} {P : Option WV → GH → Prop} {PX : String → Nat → GH → Prop}
    (hk1 : hp_kd G a0 = 27)
    (hC : wk_C w mJ11_ensureCapacityInternal d' b' [vR (some a0), vI (s0 + s1)] G P PX)
    (hdp : d' + 1 ≤ j.1)
    (hb : b' ≤ r)
    (kr : ∀ v G', P v G' → wk_V w mJ11_append_2 j 17 [(0, vR (some a0)), (1, vI x1), (2, vI x2), (3, vI (s0 + s1))] (v.toList ++ []) G' (r - b'))
    (kx : ∀ E q G', PX E q G' → wk_T w mJ11_append_2 j 14 [(0, vR (some a0)), (1, vI x1), (2, vI x2), (3, vI (s0 + s1))] G' (r - b') E q)
    : wk_V w mJ11_append_2 j 10 [(0, vR (some a0)), (1, vI x1), (2, vI x2)] [vI s1, vI s0] G r := by
  refine wk_iadd dJ11_append_2_10 ?_
  refine wk_istore_n 3 dJ11_append_2_11 rfl (Nat.le_of_ble_eq_true rfl) ?_
  refine wk_aload_n 0 dJ11_append_2_12 rfl rfl ?_
  refine wk_iload_n 3 dJ11_append_2_13 rfl rfl ?_
  exact wk_callP (n := 1) hC rfl q583 q3216 q585 (by decide +kernel) q127 q586 mdJ11_ensureCapacityInternal (Nat.le_of_ble_eq_true rfl) hk1 rfl rfl (Nat.le_of_ble_eq_true rfl) hdp hb dJ11_append_2_14 kr kx
theorem blJ11_append_2_17 {w : WD} {j : JB} {r : Nat} {G : GH} {a0 : Nat} {x1 : Int32} {x2 : Int32} {x3 : Int32} {d' b' : Nat} {P : Option WV → GH → Prop} {PX : String → Nat → GH → Prop}
    (hkr : hp_kd G a0 = 27)
    (hC : wk_C w mJ11_isLatin1 d' b' [vR (some a0)] G P PX)
    (hdp : d' + 1 ≤ j.1)
    (hb : b' ≤ r)
    (kr : ∀ v G', P v G' → wk_V w mJ11_append_2 j 21 [(0, vR (some a0)), (1, vI x1), (2, vI x2), (3, vI x3)] (v.toList ++ []) G' (r - b'))
    (kx : ∀ E q G', PX E q G' → wk_T w mJ11_append_2 j 18 [(0, vR (some a0)), (1, vI x1), (2, vI x2), (3, vI x3)] G' (r - b') E q)
    : wk_V w mJ11_append_2 j 17 [(0, vR (some a0)), (1, vI x1), (2, vI x2), (3, vI x3)] [] G r := by
  refine wk_aload_n 0 dJ11_append_2_17 rfl rfl ?_
  exact wk_callU (n := 0) (x := ⟨"java/lang/AbstractStringBuilder", "isLatin1", "()Z"⟩) "java/lang/AbstractStringBuilder" hC rfl (Or.inr ⟨q619, _, _, _, q622⟩) q618 q620 q619 (by show Cond.selects (hp_C (hp_kd G a0)) _ _ ∈ lw_all; rw [hkr]; exact q621) q127 q622 (by decide +kernel) (Nat.le_of_ble_eq_true rfl) ⟨by show hp_kd G a0 ≠ 0; rw [hkr]; decide, by show hp_kd G a0 < 28; rw [hkr]; decide⟩ rfl rfl (Nat.le_of_ble_eq_true rfl) hdp hb dJ11_append_2_18 kr kx
theorem blJ11_append_2_21 {w : WD} {j : JB} {r : Nat} {G : GH} {a0 : Nat} {x1 : Int32} {x2 : Int32} {x3 : Int32} {s0 : Int32}
    (kt : s0 = 0 → wk_V w mJ11_append_2 j 37 [(0, vR (some a0)), (1, vI x1), (2, vI x2), (3, vI x3)] [] G r)
    (kf : ¬ (s0 = 0) → wk_V w mJ11_append_2 j 24 [(0, vR (some a0)), (1, vI x1), (3, vI x3)] [] G r)
    : wk_V w mJ11_append_2 j 21 [(0, vR (some a0)), (1, vI x1), (2, vI x2), (3, vI x3)] [vI s0] G r := by
  exact wk_if_eq 37 dJ11_append_2_21 (by decide) (fun h => (kt h)) (fun h => (wk_sub [(0, vR (some a0)), (1, vI x1), (3, vI x3)] ⟨rfl, rfl, rfl, trivial⟩ (kf h)))
-- blJ11_append_2_24: left out (callee ('java/lang/Integer', 'getChars', '(II[B)I'))
theorem blJ11_append_2_33 {w : WD} {j : JB} {r : Nat} {G : GH} {a0 : Nat} {x3 : Int32} {s0 : Int32}
    (k : wk_V w mJ11_append_2 j 48 [(0, vR (some a0)), (3, vI x3)] [] G r)
    : wk_V w mJ11_append_2 j 33 [(0, vR (some a0)), (3, vI x3)] [vI s0] G r := by
  refine wk_pop dJ11_append_2_33 rfl ?_
  exact wk_goto 48 dJ11_append_2_34 (by decide) k
-- blJ11_append_2_37: left out (callee ('java/lang/StringUTF16', 'getChars', '(III[B)I'))
theorem blJ11_append_2_47 {w : WD} {j : JB} {r : Nat} {G : GH} {a0 : Nat} {x3 : Int32} {s0 : Int32}
    (k : wk_V w mJ11_append_2 j 48 [(0, vR (some a0)), (3, vI x3)] [] G r)
    : wk_V w mJ11_append_2 j 47 [(0, vR (some a0)), (3, vI x3)] [vI s0] G r := by
  refine wk_pop dJ11_append_2_47 rfl ?_
  exact k
theorem blJ11_append_2_48 {w : WD} {j : JB} {r : Nat} {G : GH} {a0 : Nat} {x3 : Int32}
    (hk1 : hp_kd G a0 = 27)
    (hA2 : hp_A w a0)
    (hP : j.2.2.1 (some (vR (some a0))) (hp_sI G a0 3 x3))
    : wk_V w mJ11_append_2 j 48 [(0, vR (some a0)), (3, vI x3)] [] G r := by
  refine wk_aload_n 0 dJ11_append_2_48 rfl rfl ?_
  refine wk_iload_n 3 dJ11_append_2_49 rfl rfl ?_
  refine wk_putI 27 3 flJ11_79 rfl (Or.inl rfl) hk1 hA2 ⟨rfl, rfl⟩ dJ11_append_2_50 ?_
  refine wk_aload_n 0 dJ11_append_2_53 rfl rfl ?_
  exact wk_areturn rfl (Or.inl ⟨_, rfl⟩) dJ11_append_2_54 hP
/-! java/lang/AbstractStringBuilder.append(Ljava/lang/String;)Ljava/lang/AbstractStringBuilder; -/
theorem blJ11_append_3_0 {w : WD} {j : JB} {r : Nat} {G : GH} {a0 : Nat} {a1 : Option Nat}
    (kt : ∀ o9, a1 = some o9 → wk_V w mJ11_append_3 j 9 [(0, vR (some a0)), (1, vR a1)] [] G r)
    (kf : a1 = none → wk_V w mJ11_append_3 j 4 [(0, vR (some a0))] [] G r)
    : wk_V w mJ11_append_3 j 0 [(0, vR (some a0)), (1, vR a1)] [] G r := by
  refine wk_aload_n 1 dJ11_append_3_0 rfl rfl ?_
  exact wk_ifnonnull 9 dJ11_append_3_1 (by decide) (fun o9 h => (kt o9 h)) (fun h => (wk_sub [(0, vR (some a0))] ⟨rfl, trivial⟩ (kf h)))
-- blJ11_append_3_4: left out (no receiver for ('java/lang/AbstractStringBuilder', 'appendNull', '()Ljava/lang/AbstractStringBuilder;'))
theorem blJ11_append_3_8 {w : WD} {j : JB} {r : Nat} {G : GH} {sa0 : Option Nat}
    (hP : j.2.2.1 (some (vR sa0)) G)
    : wk_V w mJ11_append_3 j 8 [] [vR sa0] G r := by
  exact wk_areturn rfl (Or.inl ⟨_, rfl⟩) dJ11_append_3_8 hP
theorem blJ11_append_3_9 {w : WD} {j : JB} {r : Nat} {G : GH} {a0 : Nat} {a1 : Option Nat} {o1 : Nat} {d' b' : Nat} {P : Option WV → GH → Prop} {PX : String → Nat → GH → Prop}
    (e1 : a1 = some o1)
    (hkr : hp_kd G o1 = 26)
    (hC : wk_C w mJ13_length d' b' [vR (some o1)] G P PX)
    (hdp : d' + 1 ≤ j.1)
    (hb : b' ≤ r)
    (kr : ∀ v G', P v G' → wk_V w mJ11_append_3 j 13 [(0, vR (some a0)), (1, vR a1)] (v.toList ++ []) G' (r - b'))
    (kx : ∀ E q G', PX E q G' → wk_T w mJ11_append_3 j 10 [(0, vR (some a0)), (1, vR a1)] G' (r - b') E q)
    : wk_V w mJ11_append_3 j 9 [(0, vR (some a0)), (1, vR a1)] [] G r := by
  refine wk_aload_n 1 dJ11_append_3_9 rfl rfl ?_
  refine wk_eAt 0 e1 rfl ?_
  exact wk_callV hC rfl q771 q772 q773 q129 q774 mdJ13_length (Nat.le_of_ble_eq_true rfl) ⟨by show hp_kd G o1 ≠ 0; rw [hkr]; decide, by show hp_kd G o1 < 28; rw [hkr]; decide, by show hp_C (hp_kd G o1) = _; rw [hkr]; rfl⟩ rfl rfl (Nat.le_of_ble_eq_true rfl) hdp hb dJ11_append_3_10 kr kx
theorem blJ11_append_3_13 {w : WD} {j : JB} {r : Nat} {G : GH} {a0 : Nat} {a1 : Option Nat} {s0 : Int32} {d' b' : Nat} {P : Option WV → GH → Prop} {PX : String → Nat → GH → Prop}
    (hk1 : hp_kd G a0 = 27)
    (hC : wk_C w mJ11_ensureCapacityInternal d' b' [vR (some a0), vI ((hp_i G a0 3) + s0)] G P PX)
    (hdp : d' + 1 ≤ j.1)
    (hb : b' ≤ r)
    (kr : ∀ v G', P v G' → wk_V w mJ11_append_3 j 24 [(0, vR (some a0)), (1, vR a1), (2, vI s0)] (v.toList ++ []) G' (r - b'))
    (kx : ∀ E q G', PX E q G' → wk_T w mJ11_append_3 j 21 [(0, vR (some a0)), (1, vR a1), (2, vI s0)] G' (r - b') E q)
    : wk_V w mJ11_append_3 j 13 [(0, vR (some a0)), (1, vR a1)] [vI s0] G r := by
  refine wk_istore_n 2 dJ11_append_3_13 rfl (Nat.le_of_ble_eq_true rfl) ?_
  refine wk_aload_n 0 dJ11_append_3_14 rfl rfl ?_
  refine wk_aload_n 0 dJ11_append_3_15 rfl rfl ?_
  refine wk_getI 27 3 flJ11_79 rfl hk1 dJ11_append_3_16 ?_
  refine wk_iload_n 2 dJ11_append_3_19 rfl rfl ?_
  refine wk_iadd dJ11_append_3_20 ?_
  exact wk_callP (n := 1) hC rfl q583 q3216 q585 (by decide +kernel) q127 q586 mdJ11_ensureCapacityInternal (Nat.le_of_ble_eq_true rfl) hk1 rfl rfl (Nat.le_of_ble_eq_true rfl) hdp hb dJ11_append_3_21 kr kx
-- blJ11_append_3_24: left out (no receiver for ('java/lang/AbstractStringBuilder', 'putStringAt', '(ILjava/lang/String;)V'))
theorem blJ11_append_3_33 {w : WD} {j : JB} {r : Nat} {G : GH} {a0 : Nat} {x2 : Int32}
    (hk1 : hp_kd G a0 = 27)
    (hA3 : hp_A w a0)
    (hP : j.2.2.1 (some (vR (some a0))) (hp_sI G a0 3 ((hp_i G a0 3) + x2)))
    : wk_V w mJ11_append_3 j 33 [(0, vR (some a0)), (2, vI x2)] [] G r := by
  refine wk_aload_n 0 dJ11_append_3_33 rfl rfl ?_
  refine wk_dup dJ11_append_3_34 rfl ?_
  refine wk_getI 27 3 flJ11_79 rfl hk1 dJ11_append_3_35 ?_
  refine wk_iload_n 2 dJ11_append_3_38 rfl rfl ?_
  refine wk_iadd dJ11_append_3_39 ?_
  refine wk_putI 27 3 flJ11_79 rfl (Or.inl rfl) hk1 hA3 ⟨rfl, rfl⟩ dJ11_append_3_40 ?_
  refine wk_aload_n 0 dJ11_append_3_43 rfl rfl ?_
  exact wk_areturn rfl (Or.inl ⟨_, rfl⟩) dJ11_append_3_44 hP
/-! java/lang/AbstractStringBuilder.ensureCapacityInternal(I)V -/
theorem blJ11_ensureCapacityInternal_0 {w : WD} {j : JB} {r : Nat} {G : GH} {a0 : Nat} {x1 : Int32} {o2 : Nat}
    (hk1 : hp_kd G a0 = 27)
    (e2 : (hp_r G a0 0) = some o2)
    (hk3 : 28 ≤ hp_kd G o2)
    (kt : (x1 - ((nI (hp_ln G o2)) >>> ((hp_i G a0 1) &&& 31))) ≤ 0 → wk_V w mJ11_ensureCapacityInternal j 38 [] [] G r)
    (kf : ¬ ((x1 - ((nI (hp_ln G o2)) >>> ((hp_i G a0 1) &&& 31))) ≤ 0) → wk_V w mJ11_ensureCapacityInternal j 17 [(0, vR (some a0)), (1, vI x1)] [] G r)
    : wk_V w mJ11_ensureCapacityInternal j 0 [(0, vR (some a0)), (1, vI x1)] [] G r := by
  refine wk_aload_n 0 dJ11_ensureCapacityInternal_0 rfl rfl ?_
  refine wk_getR 27 0 flJ11_15 rfl hk1 dJ11_ensureCapacityInternal_1 ?_
  refine wk_e e2 ?_
  refine wk_alen hk3 dJ11_ensureCapacityInternal_4 ?_
  refine wk_aload_n 0 dJ11_ensureCapacityInternal_5 rfl rfl ?_
  refine wk_getI 27 1 flJ11_22 rfl hk1 dJ11_ensureCapacityInternal_6 ?_
  refine wk_ishr dJ11_ensureCapacityInternal_9 ?_
  refine wk_istore_n 2 dJ11_ensureCapacityInternal_10 rfl (Nat.le_of_ble_eq_true rfl) ?_
  refine wk_iload_n 1 dJ11_ensureCapacityInternal_11 rfl rfl ?_
  refine wk_iload_n 2 dJ11_ensureCapacityInternal_12 rfl rfl ?_
  refine wk_isub dJ11_ensureCapacityInternal_13 ?_
  exact wk_if_le 38 dJ11_ensureCapacityInternal_14 (by decide) (fun h => (wk_sub [] trivial (kt h))) (fun h => (wk_sub [(0, vR (some a0)), (1, vI x1)] ⟨rfl, rfl, trivial⟩ (kf h)))
theorem blJ11_ensureCapacityInternal_17 {w : WD} {j : JB} {r : Nat} {G : GH} {a0 : Nat} {x1 : Int32} {d' b' : Nat} {P : Option WV → GH → Prop} {PX : String → Nat → GH → Prop}
    (hk1 : hp_kd G a0 = 27)
    (hC : wk_C w mJ11_newCapacity d' b' [vR (some a0), vI x1] G P PX)
    (hdp : d' + 1 ≤ j.1)
    (hb : b' ≤ r)
    (kr : ∀ v G', P v G' → wk_V w mJ11_ensureCapacityInternal j 27 [(0, vR (some a0))] (v.toList ++ [vR (hp_r G a0 0), vR (some a0)]) G' (r - b'))
    (kx : ∀ E q G', PX E q G' → wk_T w mJ11_ensureCapacityInternal j 24 [(0, vR (some a0)), (1, vI x1)] G' (r - b') E q)
    : wk_V w mJ11_ensureCapacityInternal j 17 [(0, vR (some a0)), (1, vI x1)] [] G r := by
  refine wk_aload_n 0 dJ11_ensureCapacityInternal_17 rfl rfl ?_
  refine wk_aload_n 0 dJ11_ensureCapacityInternal_18 rfl rfl ?_
  refine wk_getR 27 0 flJ11_15 rfl hk1 dJ11_ensureCapacityInternal_19 ?_
  refine wk_aload_n 0 dJ11_ensureCapacityInternal_22 rfl rfl ?_
  refine wk_iload_n 1 dJ11_ensureCapacityInternal_23 rfl rfl ?_
  exact wk_callP (n := 1) hC rfl q587 q3217 q589 (by decide +kernel) q127 q590 mdJ11_newCapacity (Nat.le_of_ble_eq_true rfl) hk1 rfl rfl (Nat.le_of_ble_eq_true rfl) hdp hb dJ11_ensureCapacityInternal_24 (fun v G' h => (wk_sub [(0, vR (some a0))] ⟨rfl, trivial⟩ (kr v G' h))) kx
theorem blJ11_ensureCapacityInternal_27 {w : WD} {j : JB} {r : Nat} {G : GH} {a0 : Nat} {s0 : Option Nat} {sa1 : Option Nat} {s2 : Int32} {d' b' : Nat} {P : Option WV → GH → Prop} {PX : String → Nat → GH → Prop}
    (hk1 : hp_kd G a0 = 27)
    (hC : wk_C w mJ17_copyOf d' b' [vR sa1, vI (s2 <<< ((hp_i G a0 1) &&& 31))] G P PX)
    (hdp : d' + 1 ≤ j.1)
    (hb : b' ≤ r)
    (kr : ∀ v G', P v G' → wk_V w mJ11_ensureCapacityInternal j 35 [] (v.toList ++ [vR s0]) G' (r - b'))
    (kx : ∀ E q G', PX E q G' → wk_T w mJ11_ensureCapacityInternal j 32 [(0, vR (some a0))] G' (r - b') E q)
    : wk_V w mJ11_ensureCapacityInternal j 27 [(0, vR (some a0))] [vI s2, vR sa1, vR s0] G r := by
  refine wk_aload_n 0 dJ11_ensureCapacityInternal_27 rfl rfl ?_
  refine wk_getI 27 1 flJ11_22 rfl hk1 dJ11_ensureCapacityInternal_28 ?_
  refine wk_ishl dJ11_ensureCapacityInternal_31 ?_
  exact wk_callS hC rfl q602 q603 q133 q604 mdJ17_copyOf (Nat.le_of_ble_eq_true rfl) rfl rfl (Nat.le_of_ble_eq_true rfl) hdp hb dJ11_ensureCapacityInternal_32 (fun v G' h => (wk_sub [] trivial (kr v G' h))) kx
theorem blJ11_ensureCapacityInternal_35 {w : WD} {j : JB} {r : Nat} {G : GH} {s0 : Option Nat} {sa1 : Option Nat} {o1 : Nat}
    (e1 : s0 = some o1)
    (hk2 : hp_kd G o1 = 27)
    (hA3 : hp_A w o1)
    (k : wk_V w mJ11_ensureCapacityInternal j 38 [] [] (hp_sR G o1 0 sa1) r)
    : wk_V w mJ11_ensureCapacityInternal j 35 [] [vR sa1, vR s0] G r := by
  refine wk_e2 e1 ?_
  refine wk_putR 27 0 flJ11_15 rfl (Or.inl rfl) hk2 hA3 dJ11_ensureCapacityInternal_35 ?_
  exact k
theorem blJ11_ensureCapacityInternal_38 {w : WD} {j : JB} {r : Nat} {G : GH}
    (hP : j.2.2.1 none G)
    : wk_V w mJ11_ensureCapacityInternal j 38 [] [] G r := by
  exact wk_return rfl dJ11_ensureCapacityInternal_38 hP
/-! java/lang/AbstractStringBuilder.getValue()[B -/
theorem blJ11_getValue_0 {w : WD} {j : JB} {r : Nat} {G : GH} {a0 : Nat}
    (hk1 : hp_kd G a0 = 27)
    (hP : j.2.2.1 (some (vR (hp_r G a0 0))) G)
    : wk_V w mJ11_getValue j 0 [(0, vR (some a0))] [] G r := by
  refine wk_aload_n 0 dJ11_getValue_0 rfl rfl ?_
  refine wk_getR 27 0 flJ11_15 rfl hk1 dJ11_getValue_1 ?_
  exact wk_areturn rfl (Or.inr ⟨_, rfl⟩) dJ11_getValue_4 hP
/-! java/lang/AbstractStringBuilder.<init>(I)V -/
theorem blJ11_init_0 {w : WD} {j : JB} {r : Nat} {G : GH} {a0 : Nat} {x1 : Int32}
    (hdp : 1 ≤ j.1)
    (k : wk_V w mJ11_init j 4 [(0, vR (some a0)), (1, vI x1)] [] G r)
    : wk_V w mJ11_init j 0 [(0, vR (some a0)), (1, vI x1)] [] G r := by
  refine wk_aload_n 0 dJ11_init_0 rfl rfl ?_
  exact wk_objInit q550 q171 q172 (by decide) hdp dJ11_init_1 k
theorem blJ11_init_4 {w : WD} {j : JB} {r : Nat} {G : GH} {a0 : Nat} {x1 : Int32}
    (kt : (1 : Int32) = 0 → wk_V w mJ11_init j 25 [(0, vR (some a0)), (1, vI x1)] [] G r)
    (kf : ¬ ((1 : Int32) = 0) → wk_V w mJ11_init j 10 [(0, vR (some a0)), (1, vI x1)] [] G r)
    : wk_V w mJ11_init j 4 [(0, vR (some a0)), (1, vI x1)] [] G r := by
  refine wk_getsI (C := "java/lang/String") (n := "COMPACT_STRINGS") (d := "Z") (1 : Int32) (by decide +kernel) q551 dJ11_init_4 ?_
  exact wk_if_eq 25 dJ11_init_7 (by decide) (fun h => (kt h)) (fun h => (kf h))
theorem blJ11_init_10 {w : WD} {j : JB} {r : Nat} {G : GH} {a0 : Nat} {x1 : Int32}
    (hn : ¬ x1 < 0)
    (hb : x1.toNatClampNeg ≤ 67108864)
    (hr : 1 + x1.toNatClampNeg / 12 ≤ r)
    (k : ∀ q, hp_kd G q = 0 → hp_A w q → wk_V w mJ11_init j 14 [(0, vR (some a0))] [vR (some q), vR (some a0)] (hp_nw G q 30 x1.toNatClampNeg) (r - (1 + x1.toNatClampNeg / 12)))
    : wk_V w mJ11_init j 10 [(0, vR (some a0)), (1, vI x1)] [] G r := by
  refine wk_aload_n 0 dJ11_init_10 rfl rfl ?_
  refine wk_iload_n 1 dJ11_init_11 rfl rfl ?_
  refine wk_newa 30 rfl ⟨by decide, by decide⟩ q248 hn hb hr dJ11_init_12 (fun q h1 h2 => ?_)
  exact (wk_sub [(0, vR (some a0))] ⟨rfl, trivial⟩ (k q h1 h2))
theorem blJ11_init_14 {w : WD} {j : JB} {r : Nat} {G : GH} {a0 : Nat} {s0 : Option Nat} {sa1 : Option Nat} {o1 : Nat}
    (e1 : s0 = some o1)
    (hk2 : hp_kd G o1 = 27)
    (hA3 : hp_A w o1)
    (hk4 : hp_kd G a0 = 27)
    (hA5 : hp_A w a0)
    (k : wk_V w mJ11_init j 22 [] [] (hp_sI (hp_sR G o1 0 sa1) a0 1 (0 : Int32)) r)
    : wk_V w mJ11_init j 14 [(0, vR (some a0))] [vR sa1, vR s0] G r := by
  refine wk_e2 e1 ?_
  refine wk_putR 27 0 flJ11_15 rfl (Or.inl rfl) hk2 hA3 dJ11_init_14 ?_
  refine wk_aload_n 0 dJ11_init_17 rfl rfl ?_
  refine wk_iconst (0 : Int32) dJ11_init_18 (by decide) ?_
  refine wk_putI 27 1 flJ11_22 rfl (Or.inl rfl) hk4 hA5 ⟨rfl, rfl⟩ dJ11_init_19 ?_
  exact (wk_sub [] trivial k)
theorem blJ11_init_22 {w : WD} {j : JB} {r : Nat} {G : GH}
    (k : wk_V w mJ11_init j 38 [] [] G r)
    : wk_V w mJ11_init j 22 [] [] G r := by
  exact wk_goto 38 dJ11_init_22 (by decide) k
-- blJ11_init_25: left out (callee ('java/lang/StringUTF16', 'newBytesFor', '(I)[B'))
theorem blJ11_init_30 {w : WD} {j : JB} {r : Nat} {G : GH} {a0 : Nat} {s0 : Option Nat} {sa1 : Option Nat} {o1 : Nat}
    (e1 : s0 = some o1)
    (hk2 : hp_kd G o1 = 27)
    (hA3 : hp_A w o1)
    (hk4 : hp_kd G a0 = 27)
    (hA5 : hp_A w a0)
    (k : wk_V w mJ11_init j 38 [] [] (hp_sI (hp_sR G o1 0 sa1) a0 1 (1 : Int32)) r)
    : wk_V w mJ11_init j 30 [(0, vR (some a0))] [vR sa1, vR s0] G r := by
  refine wk_e2 e1 ?_
  refine wk_putR 27 0 flJ11_15 rfl (Or.inl rfl) hk2 hA3 dJ11_init_30 ?_
  refine wk_aload_n 0 dJ11_init_33 rfl rfl ?_
  refine wk_iconst (1 : Int32) dJ11_init_34 (by decide) ?_
  refine wk_putI 27 1 flJ11_22 rfl (Or.inl rfl) hk4 hA5 ⟨rfl, rfl⟩ dJ11_init_35 ?_
  exact (wk_sub [] trivial k)
theorem blJ11_init_38 {w : WD} {j : JB} {r : Nat} {G : GH}
    (hP : j.2.2.1 none G)
    : wk_V w mJ11_init j 38 [] [] G r := by
  exact wk_return rfl dJ11_init_38 hP
/-! java/lang/AbstractStringBuilder.isLatin1()Z -/
theorem blJ11_isLatin1_0 {w : WD} {j : JB} {r : Nat} {G : GH} {a0 : Nat}
    (kt : (1 : Int32) = 0 → wk_V w mJ11_isLatin1 j 17 [] [] G r)
    (kf : ¬ ((1 : Int32) = 0) → wk_V w mJ11_isLatin1 j 6 [(0, vR (some a0))] [] G r)
    : wk_V w mJ11_isLatin1 j 0 [(0, vR (some a0))] [] G r := by
  refine wk_getsI (C := "java/lang/String") (n := "COMPACT_STRINGS") (d := "Z") (1 : Int32) (by decide +kernel) q551 dJ11_isLatin1_0 ?_
  exact wk_if_eq 17 dJ11_isLatin1_3 (by decide) (fun h => (wk_sub [] trivial (kt h))) (fun h => (kf h))
theorem blJ11_isLatin1_6 {w : WD} {j : JB} {r : Nat} {G : GH} {a0 : Nat}
    (hk1 : hp_kd G a0 = 27)
    (kt : ¬ ((hp_i G a0 1) = 0) → wk_V w mJ11_isLatin1 j 17 [] [] G r)
    (kf : (hp_i G a0 1) = 0 → wk_V w mJ11_isLatin1 j 13 [] [] G r)
    : wk_V w mJ11_isLatin1 j 6 [(0, vR (some a0))] [] G r := by
  refine wk_aload_n 0 dJ11_isLatin1_6 rfl rfl ?_
  refine wk_getI 27 1 flJ11_22 rfl hk1 dJ11_isLatin1_7 ?_
  exact wk_if_ne 17 dJ11_isLatin1_10 (by decide) (fun h => (wk_sub [] trivial (kt h))) (fun h => (wk_sub [] trivial (kf h)))
theorem blJ11_isLatin1_13 {w : WD} {j : JB} {r : Nat} {G : GH}
    (k : wk_V w mJ11_isLatin1 j 18 [] [vI (1 : Int32)] G r)
    : wk_V w mJ11_isLatin1 j 13 [] [] G r := by
  refine wk_iconst (1 : Int32) dJ11_isLatin1_13 (by decide) ?_
  exact wk_goto 18 dJ11_isLatin1_14 (by decide) k
theorem blJ11_isLatin1_17 {w : WD} {j : JB} {r : Nat} {G : GH}
    (k : wk_V w mJ11_isLatin1 j 18 [] [vI (0 : Int32)] G r)
    : wk_V w mJ11_isLatin1 j 17 [] [] G r := by
  refine wk_iconst (0 : Int32) dJ11_isLatin1_17 (by decide) ?_
  exact k
theorem blJ11_isLatin1_18 {w : WD} {j : JB} {r : Nat} {G : GH} {s0 : Int32}
    (hn : narrow .boolean (.int s0) = .int s0)
    (hP : j.2.2.1 (some (vI s0)) G)
    : wk_V w mJ11_isLatin1 j 18 [] [vI s0] G r := by
  exact wk_ireturn rfl hn dJ11_isLatin1_18 hP
/-! java/lang/AbstractStringBuilder.newCapacity(I)I -/
theorem blJ11_newCapacity_0 {w : WD} {j : JB} {r : Nat} {G : GH} {a0 : Nat} {x1 : Int32} {o2 : Nat} {d' b' : Nat} {P : Option WV → GH → Prop} {PX : String → Nat → GH → Prop}
    (hk1 : hp_kd G a0 = 27)
    (e2 : (hp_r G a0 0) = some o2)
    (hk3 : 28 ≤ hp_kd G o2)
    (hC : wk_C w mJ15_newLength d' b' [vI (nI (hp_ln G o2)), vI ((x1 <<< ((hp_i G a0 1) &&& 31)) - (nI (hp_ln G o2))), vI ((nI (hp_ln G o2)) + ((2 : Int32) <<< ((hp_i G a0 1) &&& 31)))] G P PX)
    (hdp : d' + 1 ≤ j.1)
    (hb : b' ≤ r)
    (kr : ∀ v G', P v G' → wk_V w mJ11_newCapacity j 32 [(0, vR (some a0))] (v.toList ++ []) G' (r - b'))
    (kx : ∀ E q G', PX E q G' → wk_T w mJ11_newCapacity j 29 [(0, vR (some a0)), (1, vI x1), (2, vI (nI (hp_ln G o2))), (3, vI (x1 <<< ((hp_i G a0 1) &&& 31))), (4, vI ((x1 <<< ((hp_i G a0 1) &&& 31)) - (nI (hp_ln G o2))))] G' (r - b') E q)
    : wk_V w mJ11_newCapacity j 0 [(0, vR (some a0)), (1, vI x1)] [] G r := by
  refine wk_aload_n 0 dJ11_newCapacity_0 rfl rfl ?_
  refine wk_getR 27 0 flJ11_15 rfl hk1 dJ11_newCapacity_1 ?_
  refine wk_e e2 ?_
  refine wk_alen hk3 dJ11_newCapacity_4 ?_
  refine wk_istore_n 2 dJ11_newCapacity_5 rfl (Nat.le_of_ble_eq_true rfl) ?_
  refine wk_iload_n 1 dJ11_newCapacity_6 rfl rfl ?_
  refine wk_aload_n 0 dJ11_newCapacity_7 rfl rfl ?_
  refine wk_getI 27 1 flJ11_22 rfl hk1 dJ11_newCapacity_8 ?_
  refine wk_ishl dJ11_newCapacity_11 ?_
  refine wk_istore_n 3 dJ11_newCapacity_12 rfl (Nat.le_of_ble_eq_true rfl) ?_
  refine wk_iload_n 3 dJ11_newCapacity_13 rfl rfl ?_
  refine wk_iload_n 2 dJ11_newCapacity_14 rfl rfl ?_
  refine wk_isub dJ11_newCapacity_15 ?_
  refine wk_istore dJ11_newCapacity_16 (Nat.le_of_ble_eq_true rfl) ?_
  refine wk_iload_n 2 dJ11_newCapacity_18 rfl rfl ?_
  refine wk_iload dJ11_newCapacity_19 rfl ?_
  refine wk_iload_n 2 dJ11_newCapacity_21 rfl rfl ?_
  refine wk_iconst (2 : Int32) dJ11_newCapacity_22 (by decide) ?_
  refine wk_aload_n 0 dJ11_newCapacity_23 rfl rfl ?_
  refine wk_getI 27 1 flJ11_22 rfl hk1 dJ11_newCapacity_24 ?_
  refine wk_ishl dJ11_newCapacity_27 ?_
  refine wk_iadd dJ11_newCapacity_28 ?_
  exact wk_callS hC rfl q591 q592 q131 q593 mdJ15_newLength (Nat.le_of_ble_eq_true rfl) rfl rfl (Nat.le_of_ble_eq_true rfl) hdp hb dJ11_newCapacity_29 (fun v G' h => (wk_sub [(0, vR (some a0))] ⟨rfl, trivial⟩ (kr v G' h))) kx
theorem blJ11_newCapacity_32 {w : WD} {j : JB} {r : Nat} {G : GH} {a0 : Nat} {s0 : Int32}
    (kt : ¬ (s0 = (2147483647 : Int32)) → wk_V w mJ11_newCapacity j 51 [(0, vR (some a0)), (5, vI s0)] [] G r)
    (kf : s0 = (2147483647 : Int32) → wk_V w mJ11_newCapacity j 41 [] [] G r)
    : wk_V w mJ11_newCapacity j 32 [(0, vR (some a0))] [vI s0] G r := by
  refine wk_istore dJ11_newCapacity_32 (Nat.le_of_ble_eq_true rfl) ?_
  refine wk_iload dJ11_newCapacity_34 rfl ?_
  refine wk_ldc (2147483647 : Int32) q601 dJ11_newCapacity_36 ?_
  exact wk_icmp_ne 51 dJ11_newCapacity_38 (by decide) (fun h => (kt h)) (fun h => (wk_sub [] trivial (kf h)))
-- blJ11_newCapacity_41: left out (new ?)
-- blJ11_newCapacity_44: left out (ldc)
theorem blJ11_newCapacity_51 {w : WD} {j : JB} {r : Nat} {G : GH} {a0 : Nat} {x5 : Int32}
    (hk1 : hp_kd G a0 = 27)
    (hP : j.2.2.1 (some (vI (x5 >>> ((hp_i G a0 1) &&& 31)))) G)
    : wk_V w mJ11_newCapacity j 51 [(0, vR (some a0)), (5, vI x5)] [] G r := by
  refine wk_iload dJ11_newCapacity_51 rfl ?_
  refine wk_aload_n 0 dJ11_newCapacity_53 rfl rfl ?_
  refine wk_getI 27 1 flJ11_22 rfl hk1 dJ11_newCapacity_54 ?_
  refine wk_ishr dJ11_newCapacity_57 ?_
  exact wk_ireturn rfl rfl dJ11_newCapacity_58 hP
/-! java/lang/StringBuilder.append(C)Ljava/lang/StringBuilder; -/
theorem blJ12_append_0 {w : WD} {j : JB} {r : Nat} {G : GH} {a0 : Nat} {x1 : Int32} {d' b' : Nat} {P : Option WV → GH → Prop} {PX : String → Nat → GH → Prop}
    (hk1 : hp_kd G a0 = 27)
    (hC : wk_C w mJ11_append d' b' [vR (some a0), vI x1] G P PX)
    (hdp : d' + 1 ≤ j.1)
    (hb : b' ≤ r)
    (kr : ∀ v G', P v G' → wk_V w mJ12_append j 5 [(0, vR (some a0))] (v.toList ++ []) G' (r - b'))
    (kx : ∀ E q G', PX E q G' → wk_T w mJ12_append j 2 [(0, vR (some a0)), (1, vI x1)] G' (r - b') E q)
    : wk_V w mJ12_append j 0 [(0, vR (some a0)), (1, vI x1)] [] G r := by
  refine wk_aload_n 0 dJ12_append_0 rfl rfl ?_
  refine wk_iload_n 1 dJ12_append_1 rfl rfl ?_
  exact wk_callSU (n := 1) hC rfl q580 q3215 q572 q581 q127 q582 ⟨by decide, by decide +kernel⟩ (Nat.le_of_ble_eq_true rfl) ⟨by show hp_kd G a0 ≠ 0; rw [hk1]; decide, by show hp_kd G a0 < 28; rw [hk1]; decide⟩ rfl rfl (Nat.le_of_ble_eq_true rfl) hdp hb dJ12_append_2 (fun v G' h => (wk_sub [(0, vR (some a0))] ⟨rfl, trivial⟩ (kr v G' h))) kx
theorem blJ12_append_5 {w : WD} {j : JB} {r : Nat} {G : GH} {a0 : Nat} {sa0 : Option Nat}
    (hP : j.2.2.1 (some (vR (some a0))) G)
    : wk_V w mJ12_append j 5 [(0, vR (some a0))] [vR sa0] G r := by
  refine wk_pop dJ12_append_5 rfl ?_
  refine wk_aload_n 0 dJ12_append_6 rfl rfl ?_
  exact wk_areturn rfl (Or.inl ⟨_, rfl⟩) dJ12_append_7 hP
/-! java/lang/StringBuilder.append(I)Ljava/lang/StringBuilder; -/
theorem blJ12_append_2_0 {w : WD} {j : JB} {r : Nat} {G : GH} {a0 : Nat} {x1 : Int32} {d' b' : Nat} {P : Option WV → GH → Prop} {PX : String → Nat → GH → Prop}
    (hk1 : hp_kd G a0 = 27)
    (hC : wk_C w mJ11_append_2 d' b' [vR (some a0), vI x1] G P PX)
    (hdp : d' + 1 ≤ j.1)
    (hb : b' ≤ r)
    (kr : ∀ v G', P v G' → wk_V w mJ12_append_2 j 5 [(0, vR (some a0))] (v.toList ++ []) G' (r - b'))
    (kx : ∀ E q G', PX E q G' → wk_T w mJ12_append_2 j 2 [(0, vR (some a0)), (1, vI x1)] G' (r - b') E q)
    : wk_V w mJ12_append_2 j 0 [(0, vR (some a0)), (1, vI x1)] [] G r := by
  refine wk_aload_n 0 dJ12_append_2_0 rfl rfl ?_
  refine wk_iload_n 1 dJ12_append_2_1 rfl rfl ?_
  exact wk_callSU (n := 1) hC rfl q726 q3219 q572 q727 q127 q728 ⟨by decide, by decide +kernel⟩ (Nat.le_of_ble_eq_true rfl) ⟨by show hp_kd G a0 ≠ 0; rw [hk1]; decide, by show hp_kd G a0 < 28; rw [hk1]; decide⟩ rfl rfl (Nat.le_of_ble_eq_true rfl) hdp hb dJ12_append_2_2 (fun v G' h => (wk_sub [(0, vR (some a0))] ⟨rfl, trivial⟩ (kr v G' h))) kx
theorem blJ12_append_2_5 {w : WD} {j : JB} {r : Nat} {G : GH} {a0 : Nat} {sa0 : Option Nat}
    (hP : j.2.2.1 (some (vR (some a0))) G)
    : wk_V w mJ12_append_2 j 5 [(0, vR (some a0))] [vR sa0] G r := by
  refine wk_pop dJ12_append_2_5 rfl ?_
  refine wk_aload_n 0 dJ12_append_2_6 rfl rfl ?_
  exact wk_areturn rfl (Or.inl ⟨_, rfl⟩) dJ12_append_2_7 hP
/-! java/lang/StringBuilder.append(Ljava/lang/String;)Ljava/lang/StringBuilder; -/
theorem blJ12_append_3_0 {w : WD} {j : JB} {r : Nat} {G : GH} {a0 : Nat} {a1 : Option Nat} {d' b' : Nat} {P : Option WV → GH → Prop} {PX : String → Nat → GH → Prop}
    (hk1 : hp_kd G a0 = 27)
    (hC : wk_C w mJ11_append_3 d' b' [vR (some a0), vR a1] G P PX)
    (hdp : d' + 1 ≤ j.1)
    (hb : b' ≤ r)
    (kr : ∀ v G', P v G' → wk_V w mJ12_append_3 j 5 [(0, vR (some a0))] (v.toList ++ []) G' (r - b'))
    (kx : ∀ E q G', PX E q G' → wk_T w mJ12_append_3 j 2 [(0, vR (some a0)), (1, vR a1)] G' (r - b') E q)
    : wk_V w mJ12_append_3 j 0 [(0, vR (some a0)), (1, vR a1)] [] G r := by
  refine wk_aload_n 0 dJ12_append_3_0 rfl rfl ?_
  refine wk_aload_n 1 dJ12_append_3_1 rfl rfl ?_
  exact wk_callSU (n := 1) hC rfl q761 q3220 q572 q762 q127 q763 ⟨by decide, by decide +kernel⟩ (Nat.le_of_ble_eq_true rfl) ⟨by show hp_kd G a0 ≠ 0; rw [hk1]; decide, by show hp_kd G a0 < 28; rw [hk1]; decide⟩ rfl rfl (Nat.le_of_ble_eq_true rfl) hdp hb dJ12_append_3_2 (fun v G' h => (wk_sub [(0, vR (some a0))] ⟨rfl, trivial⟩ (kr v G' h))) kx
theorem blJ12_append_3_5 {w : WD} {j : JB} {r : Nat} {G : GH} {a0 : Nat} {sa0 : Option Nat}
    (hP : j.2.2.1 (some (vR (some a0))) G)
    : wk_V w mJ12_append_3 j 5 [(0, vR (some a0))] [vR sa0] G r := by
  refine wk_pop dJ12_append_3_5 rfl ?_
  refine wk_aload_n 0 dJ12_append_3_6 rfl rfl ?_
  exact wk_areturn rfl (Or.inl ⟨_, rfl⟩) dJ12_append_3_7 hP
/-! java/lang/StringBuilder.<init>()V -/
theorem blJ12_init_0 {w : WD} {j : JB} {r : Nat} {G : GH} {a0 : Nat} {d' b' : Nat} {P : Option WV → GH → Prop} {PX : String → Nat → GH → Prop}
    (hC : wk_C w mJ11_init d' b' [vR (some a0), vI (16 : Int32)] G P PX)
    (hdp : d' + 1 ≤ j.1)
    (hb : b' ≤ r)
    (kr : ∀ v G', P v G' → wk_V w mJ12_init j 6 [] (v.toList ++ []) G' (r - b'))
    (kx : ∀ E q G', PX E q G' → wk_T w mJ12_init j 3 [(0, vR (some a0))] G' (r - b') E q)
    : wk_V w mJ12_init j 0 [(0, vR (some a0))] [] G r := by
  refine wk_aload_n 0 dJ12_init_0 rfl rfl ?_
  refine wk_bipush (16 : Int32) dJ12_init_1 (by decide) ?_
  exact wk_callI hC rfl rfl rfl q547 q548 q127 q549 mdJ11_init (Nat.le_of_ble_eq_true rfl) rfl rfl (Nat.le_of_ble_eq_true rfl) hdp hb dJ12_init_3 (fun v G' h => (wk_sub [] trivial (kr v G' h))) kx
theorem blJ12_init_6 {w : WD} {j : JB} {r : Nat} {G : GH}
    (hP : j.2.2.1 none G)
    : wk_V w mJ12_init j 6 [] [] G r := by
  exact wk_return rfl dJ12_init_6 hP
/-! java/lang/StringBuilder.length()I -/
theorem blJ12_length_0 {w : WD} {j : JB} {r : Nat} {G : GH} {a0 : Nat} {d' b' : Nat} {P : Option WV → GH → Prop} {PX : String → Nat → GH → Prop}
    (hk1 : hp_kd G a0 = 27)
    (hC : wk_C w mJ11_length d' b' [vR (some a0)] G P PX)
    (hdp : d' + 1 ≤ j.1)
    (hb : b' ≤ r)
    (kr : ∀ v G', P v G' → wk_V w mJ12_length j 4 [] (v.toList ++ []) G' (r - b'))
    (kx : ∀ E q G', PX E q G' → wk_T w mJ12_length j 1 [(0, vR (some a0))] G' (r - b') E q)
    : wk_V w mJ12_length j 0 [(0, vR (some a0))] [] G r := by
  refine wk_aload_n 0 dJ12_length_0 rfl rfl ?_
  exact wk_callSU (n := 0) hC rfl q699 q695 q572 q694 q127 q700 ⟨by decide, by decide +kernel⟩ (Nat.le_of_ble_eq_true rfl) ⟨by show hp_kd G a0 ≠ 0; rw [hk1]; decide, by show hp_kd G a0 < 28; rw [hk1]; decide⟩ rfl rfl (Nat.le_of_ble_eq_true rfl) hdp hb dJ12_length_1 (fun v G' h => (wk_sub [] trivial (kr v G' h))) kx
theorem blJ12_length_4 {w : WD} {j : JB} {r : Nat} {G : GH} {s0 : Int32}
    (hP : j.2.2.1 (some (vI s0)) G)
    : wk_V w mJ12_length j 4 [] [vI s0] G r := by
  exact wk_ireturn rfl rfl dJ12_length_4 hP
/-! java/lang/StringBuilder.toString()Ljava/lang/String; -/
theorem blJ12_toString_0 {w : WD} {j : JB} {r : Nat} {G : GH} {a0 : Nat}
    (hr : 1 ≤ r)
    (k : ∀ q, hp_kd G q = 0 → hp_A w q → wk_V w mJ12_toString j 3 [(0, vR (some a0))] [vR (some q)] (hp_nw G q 26 0) (r - 1))
    : wk_V w mJ12_toString j 0 [(0, vR (some a0))] [] G r := by
  refine wk_new 26 4 ⟨by decide, by decide, q679, q680, q129, rfl⟩ hr dJ12_toString_0 (fun q h1 h2 => ?_)
  exact (k q h1 h2)
theorem blJ12_toString_3 {w : WD} {j : JB} {r : Nat} {G : GH} {a0 : Nat} {sa0 : Option Nat} {o1 : Nat} {d' b' : Nat} {P : Option WV → GH → Prop} {PX : String → Nat → GH → Prop}
    (e1 : sa0 = some o1)
    (hC : wk_C w mJ13_init d' b' [vR (some o1), vR (some a0)] G P PX)
    (hdp : d' + 1 ≤ j.1)
    (hb : b' ≤ r)
    (kr : ∀ v G', P v G' → wk_V w mJ12_toString j 8 [] (v.toList ++ [vR sa0]) G' (r - b'))
    (kx : ∀ E q G', PX E q G' → wk_T w mJ12_toString j 5 [(0, vR (some a0))] G' (r - b') E q)
    : wk_V w mJ12_toString j 3 [(0, vR (some a0))] [vR sa0] G r := by
  refine wk_dup dJ12_toString_3 rfl ?_
  refine wk_aload_n 0 dJ12_toString_4 rfl rfl ?_
  refine wk_eAt 1 e1 rfl ?_
  exact wk_callI hC rfl rfl rfl q681 q682 q129 q683 mdJ13_init (Nat.le_of_ble_eq_true rfl) rfl rfl (Nat.le_of_ble_eq_true rfl) hdp hb dJ12_toString_5 (fun v G' h => (wk_sub [] trivial (kr v G' h))) kx
theorem blJ12_toString_8 {w : WD} {j : JB} {r : Nat} {G : GH} {sa0 : Option Nat}
    (hP : j.2.2.1 (some (vR sa0)) G)
    : wk_V w mJ12_toString j 8 [] [vR sa0] G r := by
  exact wk_areturn rfl (Or.inl ⟨_, rfl⟩) dJ12_toString_8 hP
/-! java/lang/String.charAt(I)C -/
theorem blJ13_charAt_0 {w : WD} {j : JB} {r : Nat} {G : GH} {a0 : Nat} {x1 : Int32} {d' b' : Nat} {P : Option WV → GH → Prop} {PX : String → Nat → GH → Prop}
    (hkr : hp_kd G a0 = 26)
    (hC : wk_C w mJ13_isLatin1 d' b' [vR (some a0)] G P PX)
    (hdp : d' + 1 ≤ j.1)
    (hb : b' ≤ r)
    (kr : ∀ v G', P v G' → wk_V w mJ13_charAt j 4 [(0, vR (some a0)), (1, vI x1)] (v.toList ++ []) G' (r - b'))
    (kx : ∀ E q G', PX E q G' → wk_T w mJ13_charAt j 1 [(0, vR (some a0)), (1, vI x1)] G' (r - b') E q)
    : wk_V w mJ13_charAt j 0 [(0, vR (some a0)), (1, vI x1)] [] G r := by
  refine wk_aload_n 0 dJ13_charAt_0 rfl rfl ?_
  exact wk_callV hC rfl q918 q919 q920 q129 q921 mdJ13_isLatin1 (Nat.le_of_ble_eq_true rfl) ⟨by show hp_kd G a0 ≠ 0; rw [hkr]; decide, by show hp_kd G a0 < 28; rw [hkr]; decide, by show hp_C (hp_kd G a0) = _; rw [hkr]; rfl⟩ rfl rfl (Nat.le_of_ble_eq_true rfl) hdp hb dJ13_charAt_1 kr kx
theorem blJ13_charAt_4 {w : WD} {j : JB} {r : Nat} {G : GH} {a0 : Nat} {x1 : Int32} {s0 : Int32}
    (kt : s0 = 0 → wk_V w mJ13_charAt j 16 [(0, vR (some a0)), (1, vI x1)] [] G r)
    (kf : ¬ (s0 = 0) → wk_V w mJ13_charAt j 7 [(0, vR (some a0)), (1, vI x1)] [] G r)
    : wk_V w mJ13_charAt j 4 [(0, vR (some a0)), (1, vI x1)] [vI s0] G r := by
  exact wk_if_eq 16 dJ13_charAt_4 (by decide) (fun h => (kt h)) (fun h => (kf h))
theorem blJ13_charAt_7 {w : WD} {j : JB} {r : Nat} {G : GH} {a0 : Nat} {x1 : Int32} {d' b' : Nat} {P : Option WV → GH → Prop} {PX : String → Nat → GH → Prop}
    (hk1 : hp_kd G a0 = 26)
    (hC : wk_C w mJ18_charAt d' b' [vR (hp_r G a0 0), vI x1] G P PX)
    (hdp : d' + 1 ≤ j.1)
    (hb : b' ≤ r)
    (kr : ∀ v G', P v G' → wk_V w mJ13_charAt j 15 [] (v.toList ++ []) G' (r - b'))
    (kx : ∀ E q G', PX E q G' → wk_T w mJ13_charAt j 12 [(0, vR (some a0)), (1, vI x1)] G' (r - b') E q)
    : wk_V w mJ13_charAt j 7 [(0, vR (some a0)), (1, vI x1)] [] G r := by
  refine wk_aload_n 0 dJ13_charAt_7 rfl rfl ?_
  refine wk_getR 26 0 flJ13_9 rfl hk1 dJ13_charAt_8 ?_
  refine wk_iload_n 1 dJ13_charAt_11 rfl rfl ?_
  exact wk_callS hC rfl q2893 q2894 q135 q2895 mdJ18_charAt (Nat.le_of_ble_eq_true rfl) rfl rfl (Nat.le_of_ble_eq_true rfl) hdp hb dJ13_charAt_12 (fun v G' h => (wk_sub [] trivial (kr v G' h))) kx
theorem blJ13_charAt_15 {w : WD} {j : JB} {r : Nat} {G : GH} {s0 : Int32}
    (hn : narrow .char (.int s0) = .int s0)
    (hP : j.2.2.1 (some (vI s0)) G)
    : wk_V w mJ13_charAt j 15 [] [vI s0] G r := by
  exact wk_ireturn rfl hn dJ13_charAt_15 hP
-- blJ13_charAt_16: left out (callee ('java/lang/StringUTF16', 'charAt', '([BI)C'))
theorem blJ13_charAt_24 {w : WD} {j : JB} {r : Nat} {G : GH} {s0 : Int32}
    (hn : narrow .char (.int s0) = .int s0)
    (hP : j.2.2.1 (some (vI s0)) G)
    : wk_V w mJ13_charAt j 24 [] [vI s0] G r := by
  exact wk_ireturn rfl hn dJ13_charAt_24 hP
/-! java/lang/String.checkIndex(II)V -/
theorem blJ13_checkIndex_0 {w : WD} {j : JB} {r : Nat} {G : GH} {x0 : Int32} {x1 : Int32} {d' b' : Nat} {P : Option WV → GH → Prop} {PX : String → Nat → GH → Prop}
    (hC : wk_C w mJ19_checkIndex d' b' [vI x0, vI x1, vR (hp_sv w "jdk/internal/util/Preconditions" "SIOOBE_FORMATTER")] G P PX)
    (hdp : d' + 1 ≤ j.1)
    (hb : b' ≤ r)
    (kr : ∀ v G', P v G' → wk_V w mJ13_checkIndex j 8 [] (v.toList ++ []) G' (r - b'))
    (kx : ∀ E q G', PX E q G' → wk_T w mJ13_checkIndex j 5 [(0, vI x0), (1, vI x1)] G' (r - b') E q)
    : wk_V w mJ13_checkIndex j 0 [(0, vI x0), (1, vI x1)] [] G r := by
  refine wk_iload_n 0 dJ13_checkIndex_0 rfl rfl ?_
  refine wk_iload_n 1 dJ13_checkIndex_1 rfl rfl ?_
  refine wk_getsR (C := "jdk/internal/util/Preconditions") (n := "SIOOBE_FORMATTER") (d := "Ljava/util/function/BiFunction;") (by decide +kernel) q645 dJ13_checkIndex_2 ?_
  exact wk_callS hC rfl q668 q669 q136 q670 mdJ19_checkIndex (Nat.le_of_ble_eq_true rfl) rfl rfl (Nat.le_of_ble_eq_true rfl) hdp hb dJ13_checkIndex_5 (fun v G' h => (wk_sub [] trivial (kr v G' h))) kx
theorem blJ13_checkIndex_8 {w : WD} {j : JB} {r : Nat} {G : GH} {s0 : Int32}
    (hP : j.2.2.1 none G)
    : wk_V w mJ13_checkIndex j 8 [] [vI s0] G r := by
  refine wk_pop dJ13_checkIndex_8 rfl ?_
  exact wk_return rfl dJ13_checkIndex_9 hP
/-! java/lang/String.coder()B -/
theorem blJ13_coder_0 {w : WD} {j : JB} {r : Nat} {G : GH} {a0 : Nat}
    (kt : (1 : Int32) = 0 → wk_V w mJ13_coder j 13 [] [] G r)
    (kf : ¬ ((1 : Int32) = 0) → wk_V w mJ13_coder j 6 [(0, vR (some a0))] [] G r)
    : wk_V w mJ13_coder j 0 [(0, vR (some a0))] [] G r := by
  refine wk_getsI (C := "java/lang/String") (n := "COMPACT_STRINGS") (d := "Z") (1 : Int32) (by decide +kernel) q779 dJ13_coder_0 ?_
  exact wk_if_eq 13 dJ13_coder_3 (by decide) (fun h => (wk_sub [] trivial (kt h))) (fun h => (kf h))
theorem blJ13_coder_6 {w : WD} {j : JB} {r : Nat} {G : GH} {a0 : Nat}
    (hk1 : hp_kd G a0 = 26)
    (k : wk_V w mJ13_coder j 14 [] [vI (hp_i G a0 1)] G r)
    : wk_V w mJ13_coder j 6 [(0, vR (some a0))] [] G r := by
  refine wk_aload_n 0 dJ13_coder_6 rfl rfl ?_
  refine wk_getI 26 1 flJ13_15 rfl hk1 dJ13_coder_7 ?_
  exact wk_goto 14 dJ13_coder_10 (by decide) (wk_sub [] trivial k)
theorem blJ13_coder_13 {w : WD} {j : JB} {r : Nat} {G : GH}
    (k : wk_V w mJ13_coder j 14 [] [vI (1 : Int32)] G r)
    : wk_V w mJ13_coder j 13 [] [] G r := by
  refine wk_iconst (1 : Int32) dJ13_coder_13 (by decide) ?_
  exact k
theorem blJ13_coder_14 {w : WD} {j : JB} {r : Nat} {G : GH} {s0 : Int32}
    (hn : narrow .byte (.int s0) = .int s0)
    (hP : j.2.2.1 (some (vI s0)) G)
    : wk_V w mJ13_coder j 14 [] [vI s0] G r := by
  exact wk_ireturn rfl hn dJ13_coder_14 hP
/-! java/lang/String.compareTo(Ljava/lang/Object;)I -/
theorem blJ13_compareTo_0 {w : WD} {j : JB} {r : Nat} {G : GH} {a0 : Nat} {a1 : Option Nat} {d' b' : Nat} {P : Option WV → GH → Prop} {PX : String → Nat → GH → Prop}
    (hc1 : ∀ a, a1 = some a → hp_kd G a ≠ 0 ∧ hp_kd G a < 28 ∧ hp_sub (hp_kd G a) "java/lang/String")
    (hkr : hp_kd G a0 = 26)
    (hC : wk_C w mJ13_compareTo_2 d' b' [vR (some a0), vR a1] G P PX)
    (hdp : d' + 1 ≤ j.1)
    (hb : b' ≤ r)
    (kr : ∀ v G', P v G' → wk_V w mJ13_compareTo j 8 [] (v.toList ++ []) G' (r - b'))
    (kx : ∀ E q G', PX E q G' → wk_T w mJ13_compareTo j 5 [(0, vR (some a0)), (1, vR a1)] G' (r - b') E q)
    : wk_V w mJ13_compareTo j 0 [(0, vR (some a0)), (1, vR a1)] [] G r := by
  refine wk_aload_n 0 dJ13_compareTo_0 rfl rfl ?_
  refine wk_aload_n 1 dJ13_compareTo_1 rfl rfl ?_
  refine wk_castQ q899 hc1 dJ13_compareTo_2 ?_
  exact wk_callV hC rfl q1175 q1176 q1177 q129 q1178 mdJ13_compareTo_2 (Nat.le_of_ble_eq_true rfl) ⟨by show hp_kd G a0 ≠ 0; rw [hkr]; decide, by show hp_kd G a0 < 28; rw [hkr]; decide, by show hp_C (hp_kd G a0) = _; rw [hkr]; rfl⟩ rfl rfl (Nat.le_of_ble_eq_true rfl) hdp hb dJ13_compareTo_5 (fun v G' h => (wk_sub [] trivial (kr v G' h))) kx
theorem blJ13_compareTo_8 {w : WD} {j : JB} {r : Nat} {G : GH} {s0 : Int32}
    (hP : j.2.2.1 (some (vI s0)) G)
    : wk_V w mJ13_compareTo j 8 [] [vI s0] G r := by
  exact wk_ireturn rfl rfl dJ13_compareTo_8 hP
/-! java/lang/String.compareTo(Ljava/lang/String;)I -/
theorem blJ13_compareTo_2_0 {w : WD} {j : JB} {r : Nat} {G : GH} {a0 : Nat} {a1 : Option Nat} {o2 : Nat} {d' b' : Nat} {P : Option WV → GH → Prop} {PX : String → Nat → GH → Prop}
    (hk1 : hp_kd G a0 = 26)
    (e2 : a1 = some o2)
    (hk3 : hp_kd G o2 = 26)
    (hC : wk_C w mJ13_coder d' b' [vR (some a0)] G P PX)
    (hdp : d' + 1 ≤ j.1)
    (hb : b' ≤ r)
    (kr : ∀ v G', P v G' → wk_V w mJ13_compareTo_2 j 14 [(1, vR a1), (2, vR (hp_r G a0 0)), (3, vR (hp_r G o2 0))] (v.toList ++ []) G' (r - b'))
    (kx : ∀ E q G', PX E q G' → wk_T w mJ13_compareTo_2 j 11 [(0, vR (some a0)), (1, vR a1), (2, vR (hp_r G a0 0)), (3, vR (hp_r G o2 0))] G' (r - b') E q)
    : wk_V w mJ13_compareTo_2 j 0 [(0, vR (some a0)), (1, vR a1)] [] G r := by
  refine wk_aload_n 0 dJ13_compareTo_2_0 rfl rfl ?_
  refine wk_getR 26 0 flJ13_9 rfl hk1 dJ13_compareTo_2_1 ?_
  refine wk_astore_n 2 dJ13_compareTo_2_4 rfl (Nat.le_of_ble_eq_true rfl) ?_
  refine wk_aload_n 1 dJ13_compareTo_2_5 rfl rfl ?_
  refine wk_e e2 ?_
  refine wk_getR 26 0 flJ13_9 rfl hk3 dJ13_compareTo_2_6 ?_
  refine wk_astore_n 3 dJ13_compareTo_2_9 rfl (Nat.le_of_ble_eq_true rfl) ?_
  refine wk_aload_n 0 dJ13_compareTo_2_10 rfl rfl ?_
  exact wk_callV hC rfl q775 q776 q777 q129 q778 mdJ13_coder (Nat.le_of_ble_eq_true rfl) ⟨by show hp_kd G a0 ≠ 0; rw [hk1]; decide, by show hp_kd G a0 < 28; rw [hk1]; decide, by show hp_C (hp_kd G a0) = _; rw [hk1]; rfl⟩ rfl rfl (Nat.le_of_ble_eq_true rfl) hdp hb dJ13_compareTo_2_11 (fun v G' h => (wk_sub [(1, vR a1), (2, vR (hp_r G a0 0)), (3, vR (hp_r G o2 0))] ⟨rfl, rfl, rfl, trivial⟩ (kr v G' h))) kx
theorem blJ13_compareTo_2_14 {w : WD} {j : JB} {r : Nat} {G : GH} {a1 : Option Nat} {a2 : Option Nat} {a3 : Option Nat} {s0 : Int32} {o1 : Nat} {d' b' : Nat} {P : Option WV → GH → Prop} {PX : String → Nat → GH → Prop}
    (e1 : a1 = some o1)
    (hkr : hp_kd G o1 = 26)
    (hC : wk_C w mJ13_coder d' b' [vR (some o1)] G P PX)
    (hdp : d' + 1 ≤ j.1)
    (hb : b' ≤ r)
    (kr : ∀ v G', P v G' → wk_V w mJ13_compareTo_2 j 22 [(2, vR a2), (3, vR a3), (4, vI s0)] (v.toList ++ [vI s0]) G' (r - b'))
    (kx : ∀ E q G', PX E q G' → wk_T w mJ13_compareTo_2 j 19 [(1, vR a1), (2, vR a2), (3, vR a3), (4, vI s0)] G' (r - b') E q)
    : wk_V w mJ13_compareTo_2 j 14 [(1, vR a1), (2, vR a2), (3, vR a3)] [vI s0] G r := by
  refine wk_istore dJ13_compareTo_2_14 (Nat.le_of_ble_eq_true rfl) ?_
  refine wk_iload dJ13_compareTo_2_16 rfl ?_
  refine wk_aload_n 1 dJ13_compareTo_2_18 rfl rfl ?_
  refine wk_eAt 0 e1 rfl ?_
  exact wk_callV hC rfl q775 q776 q777 q129 q778 mdJ13_coder (Nat.le_of_ble_eq_true rfl) ⟨by show hp_kd G o1 ≠ 0; rw [hkr]; decide, by show hp_kd G o1 < 28; rw [hkr]; decide, by show hp_C (hp_kd G o1) = _; rw [hkr]; rfl⟩ rfl rfl (Nat.le_of_ble_eq_true rfl) hdp hb dJ13_compareTo_2_19 (fun v G' h => (wk_sub [(2, vR a2), (3, vR a3), (4, vI s0)] ⟨rfl, rfl, rfl, trivial⟩ (kr v G' h))) kx
theorem blJ13_compareTo_2_22 {w : WD} {j : JB} {r : Nat} {G : GH} {a2 : Option Nat} {a3 : Option Nat} {x4 : Int32} {s0 : Int32} {s1 : Int32}
    (kt : ¬ (s0 = s1) → wk_V w mJ13_compareTo_2 j 44 [(2, vR a2), (3, vR a3), (4, vI x4)] [] G r)
    (kf : s0 = s1 → wk_V w mJ13_compareTo_2 j 25 [(2, vR a2), (3, vR a3), (4, vI x4)] [] G r)
    : wk_V w mJ13_compareTo_2 j 22 [(2, vR a2), (3, vR a3), (4, vI x4)] [vI s1, vI s0] G r := by
  exact wk_icmp_ne 44 dJ13_compareTo_2_22 (by decide) (fun h => (kt h)) (fun h => (kf h))
theorem blJ13_compareTo_2_25 {w : WD} {j : JB} {r : Nat} {G : GH} {a2 : Option Nat} {a3 : Option Nat} {x4 : Int32}
    (kt : ¬ (x4 = 0) → wk_V w mJ13_compareTo_2 j 38 [(2, vR a2), (3, vR a3)] [] G r)
    (kf : x4 = 0 → wk_V w mJ13_compareTo_2 j 30 [(2, vR a2), (3, vR a3)] [] G r)
    : wk_V w mJ13_compareTo_2 j 25 [(2, vR a2), (3, vR a3), (4, vI x4)] [] G r := by
  refine wk_iload dJ13_compareTo_2_25 rfl ?_
  exact wk_if_ne 38 dJ13_compareTo_2_27 (by decide) (fun h => (wk_sub [(2, vR a2), (3, vR a3)] ⟨rfl, rfl, trivial⟩ (kt h))) (fun h => (wk_sub [(2, vR a2), (3, vR a3)] ⟨rfl, rfl, trivial⟩ (kf h)))
theorem blJ13_compareTo_2_30 {w : WD} {j : JB} {r : Nat} {G : GH} {a2 : Option Nat} {a3 : Option Nat} {d' b' : Nat} {P : Option WV → GH → Prop} {PX : String → Nat → GH → Prop}
    (hC : wk_C w mJ18_compareTo d' b' [vR a2, vR a3] G P PX)
    (hdp : d' + 1 ≤ j.1)
    (hb : b' ≤ r)
    (kr : ∀ v G', P v G' → wk_V w mJ13_compareTo_2 j 35 [] (v.toList ++ []) G' (r - b'))
    (kx : ∀ E q G', PX E q G' → wk_T w mJ13_compareTo_2 j 32 [(2, vR a2), (3, vR a3)] G' (r - b') E q)
    : wk_V w mJ13_compareTo_2 j 30 [(2, vR a2), (3, vR a3)] [] G r := by
  refine wk_aload_n 2 dJ13_compareTo_2_30 rfl rfl ?_
  refine wk_aload_n 3 dJ13_compareTo_2_31 rfl rfl ?_
  exact wk_callS hC rfl q1179 q1180 q135 q1181 mdJ18_compareTo (Nat.le_of_ble_eq_true rfl) rfl rfl (Nat.le_of_ble_eq_true rfl) hdp hb dJ13_compareTo_2_32 (fun v G' h => (wk_sub [] trivial (kr v G' h))) kx
theorem blJ13_compareTo_2_35 {w : WD} {j : JB} {r : Nat} {G : GH} {s0 : Int32}
    (k : wk_V w mJ13_compareTo_2 j 43 [] [vI s0] G r)
    : wk_V w mJ13_compareTo_2 j 35 [] [vI s0] G r := by
  exact wk_goto 43 dJ13_compareTo_2_35 (by decide) k
-- blJ13_compareTo_2_38: left out (callee ('java/lang/StringUTF16', 'compareTo', '([B[B)I'))
theorem blJ13_compareTo_2_43 {w : WD} {j : JB} {r : Nat} {G : GH} {s0 : Int32}
    (hP : j.2.2.1 (some (vI s0)) G)
    : wk_V w mJ13_compareTo_2 j 43 [] [vI s0] G r := by
  exact wk_ireturn rfl rfl dJ13_compareTo_2_43 hP
theorem blJ13_compareTo_2_44 {w : WD} {j : JB} {r : Nat} {G : GH} {a2 : Option Nat} {a3 : Option Nat} {x4 : Int32}
    (kt : ¬ (x4 = 0) → wk_V w mJ13_compareTo_2 j 57 [(2, vR a2), (3, vR a3)] [] G r)
    (kf : x4 = 0 → wk_V w mJ13_compareTo_2 j 49 [(2, vR a2), (3, vR a3)] [] G r)
    : wk_V w mJ13_compareTo_2 j 44 [(2, vR a2), (3, vR a3), (4, vI x4)] [] G r := by
  refine wk_iload dJ13_compareTo_2_44 rfl ?_
  exact wk_if_ne 57 dJ13_compareTo_2_46 (by decide) (fun h => (wk_sub [(2, vR a2), (3, vR a3)] ⟨rfl, rfl, trivial⟩ (kt h))) (fun h => (wk_sub [(2, vR a2), (3, vR a3)] ⟨rfl, rfl, trivial⟩ (kf h)))
theorem blJ13_compareTo_2_49 {w : WD} {j : JB} {r : Nat} {G : GH} {a2 : Option Nat} {a3 : Option Nat} {d' b' : Nat} {P : Option WV → GH → Prop} {PX : String → Nat → GH → Prop}
    (hC : wk_C w mJ18_compareToUTF16 d' b' [vR a2, vR a3] G P PX)
    (hdp : d' + 1 ≤ j.1)
    (hb : b' ≤ r)
    (kr : ∀ v G', P v G' → wk_V w mJ13_compareTo_2 j 54 [] (v.toList ++ []) G' (r - b'))
    (kx : ∀ E q G', PX E q G' → wk_T w mJ13_compareTo_2 j 51 [(2, vR a2), (3, vR a3)] G' (r - b') E q)
    : wk_V w mJ13_compareTo_2 j 49 [(2, vR a2), (3, vR a3)] [] G r := by
  refine wk_aload_n 2 dJ13_compareTo_2_49 rfl rfl ?_
  refine wk_aload_n 3 dJ13_compareTo_2_50 rfl rfl ?_
  exact wk_callS hC rfl q1300 q1301 q135 q1302 mdJ18_compareToUTF16 (Nat.le_of_ble_eq_true rfl) rfl rfl (Nat.le_of_ble_eq_true rfl) hdp hb dJ13_compareTo_2_51 (fun v G' h => (wk_sub [] trivial (kr v G' h))) kx
theorem blJ13_compareTo_2_54 {w : WD} {j : JB} {r : Nat} {G : GH} {s0 : Int32}
    (k : wk_V w mJ13_compareTo_2 j 62 [] [vI s0] G r)
    : wk_V w mJ13_compareTo_2 j 54 [] [vI s0] G r := by
  exact wk_goto 62 dJ13_compareTo_2_54 (by decide) k
-- blJ13_compareTo_2_57: left out (callee ('java/lang/StringUTF16', 'compareToLatin1', '([B[B)I'))
theorem blJ13_compareTo_2_62 {w : WD} {j : JB} {r : Nat} {G : GH} {s0 : Int32}
    (hP : j.2.2.1 (some (vI s0)) G)
    : wk_V w mJ13_compareTo_2 j 62 [] [vI s0] G r := by
  exact wk_ireturn rfl rfl dJ13_compareTo_2_62 hP
/-! java/lang/String.equals(Ljava/lang/Object;)Z -/
theorem blJ13_equals_0 {w : WD} {j : JB} {r : Nat} {G : GH} {a0 : Nat} {a1 : Option Nat}
    (kt : ¬ ((some a0) = a1) → wk_V w mJ13_equals j 7 [(0, vR (some a0)), (1, vR a1)] [] G r)
    (kf : (some a0) = a1 → wk_V w mJ13_equals j 5 [] [] G r)
    : wk_V w mJ13_equals j 0 [(0, vR (some a0)), (1, vR a1)] [] G r := by
  refine wk_aload_n 0 dJ13_equals_0 rfl rfl ?_
  refine wk_aload_n 1 dJ13_equals_1 rfl rfl ?_
  exact wk_acmp_ne 7 dJ13_equals_2 (by decide) (fun h => (kt h)) (fun h => (wk_sub [] trivial (kf h)))
theorem blJ13_equals_5 {w : WD} {j : JB} {r : Nat} {G : GH}
    (hP : j.2.2.1 (some (vI (1 : Int32))) G)
    : wk_V w mJ13_equals j 5 [] [] G r := by
  refine wk_iconst (1 : Int32) dJ13_equals_5 (by decide) ?_
  exact wk_ireturn rfl rfl dJ13_equals_6 hP
theorem blJ13_equals_7 {w : WD} {j : JB} {r : Nat} {G : GH} {a0 : Nat} {a1 : Option Nat} {v1 : Int32}
    (hc2 : hp_inst G a1 "java/lang/String" v1)
    (kt : v1 = 0 → wk_V w mJ13_equals j 54 [] [] G r)
    (kf : ¬ (v1 = 0) → wk_V w mJ13_equals j 14 [(0, vR (some a0)), (1, vR a1)] [] G r)
    : wk_V w mJ13_equals j 7 [(0, vR (some a0)), (1, vR a1)] [] G r := by
  refine wk_aload_n 1 dJ13_equals_7 rfl rfl ?_
  refine wk_instQ q899 hc2 dJ13_equals_8 ?_
  exact wk_if_eq 54 dJ13_equals_11 (by decide) (fun h => (wk_sub [] trivial (kt h))) (fun h => (kf h))
theorem blJ13_equals_14 {w : WD} {j : JB} {r : Nat} {G : GH} {a0 : Nat} {a1 : Option Nat}
    (hc1 : ∀ a, a1 = some a → hp_kd G a ≠ 0 ∧ hp_kd G a < 28 ∧ hp_sub (hp_kd G a) "java/lang/String")
    (kt : (1 : Int32) = 0 → wk_V w mJ13_equals j 36 [(0, vR (some a0)), (2, vR a1)] [] G r)
    (kf : ¬ ((1 : Int32) = 0) → wk_V w mJ13_equals j 25 [(0, vR (some a0)), (2, vR a1)] [] G r)
    : wk_V w mJ13_equals j 14 [(0, vR (some a0)), (1, vR a1)] [] G r := by
  refine wk_aload_n 1 dJ13_equals_14 rfl rfl ?_
  refine wk_castQ q899 hc1 dJ13_equals_15 ?_
  refine wk_astore_n 2 dJ13_equals_18 rfl (Nat.le_of_ble_eq_true rfl) ?_
  refine wk_getsI (C := "java/lang/String") (n := "COMPACT_STRINGS") (d := "Z") (1 : Int32) (by decide +kernel) q779 dJ13_equals_19 ?_
  exact wk_if_eq 36 dJ13_equals_22 (by decide) (fun h => (wk_sub [(0, vR (some a0)), (2, vR a1)] ⟨rfl, rfl, trivial⟩ (kt h))) (fun h => (wk_sub [(0, vR (some a0)), (2, vR a1)] ⟨rfl, rfl, trivial⟩ (kf h)))
theorem blJ13_equals_25 {w : WD} {j : JB} {r : Nat} {G : GH} {a0 : Nat} {a2 : Option Nat} {o2 : Nat}
    (hk1 : hp_kd G a0 = 26)
    (e2 : a2 = some o2)
    (hk3 : hp_kd G o2 = 26)
    (kt : ¬ ((hp_i G a0 1) = (hp_i G o2 1)) → wk_V w mJ13_equals j 54 [] [] G r)
    (kf : (hp_i G a0 1) = (hp_i G o2 1) → wk_V w mJ13_equals j 36 [(0, vR (some a0)), (2, vR a2)] [] G r)
    : wk_V w mJ13_equals j 25 [(0, vR (some a0)), (2, vR a2)] [] G r := by
  refine wk_aload_n 0 dJ13_equals_25 rfl rfl ?_
  refine wk_getI 26 1 flJ13_15 rfl hk1 dJ13_equals_26 ?_
  refine wk_aload_n 2 dJ13_equals_29 rfl rfl ?_
  refine wk_e e2 ?_
  refine wk_getI 26 1 flJ13_15 rfl hk3 dJ13_equals_30 ?_
  exact wk_icmp_ne 54 dJ13_equals_33 (by decide) (fun h => (wk_sub [] trivial (kt h))) (fun h => (kf h))
theorem blJ13_equals_36 {w : WD} {j : JB} {r : Nat} {G : GH} {a0 : Nat} {a2 : Option Nat} {o2 : Nat} {d' b' : Nat} {P : Option WV → GH → Prop} {PX : String → Nat → GH → Prop}
    (hk1 : hp_kd G a0 = 26)
    (e2 : a2 = some o2)
    (hk3 : hp_kd G o2 = 26)
    (hC : wk_C w mJ18_equals d' b' [vR (hp_r G a0 0), vR (hp_r G o2 0)] G P PX)
    (hdp : d' + 1 ≤ j.1)
    (hb : b' ≤ r)
    (kr : ∀ v G', P v G' → wk_V w mJ13_equals j 47 [] (v.toList ++ []) G' (r - b'))
    (kx : ∀ E q G', PX E q G' → wk_T w mJ13_equals j 44 [(0, vR (some a0)), (2, vR a2)] G' (r - b') E q)
    : wk_V w mJ13_equals j 36 [(0, vR (some a0)), (2, vR a2)] [] G r := by
  refine wk_aload_n 0 dJ13_equals_36 rfl rfl ?_
  refine wk_getR 26 0 flJ13_9 rfl hk1 dJ13_equals_37 ?_
  refine wk_aload_n 2 dJ13_equals_40 rfl rfl ?_
  refine wk_e e2 ?_
  refine wk_getR 26 0 flJ13_9 rfl hk3 dJ13_equals_41 ?_
  exact wk_callS hC rfl q900 q901 q135 q902 mdJ18_equals (Nat.le_of_ble_eq_true rfl) rfl rfl (Nat.le_of_ble_eq_true rfl) hdp hb dJ13_equals_44 (fun v G' h => (wk_sub [] trivial (kr v G' h))) kx
theorem blJ13_equals_47 {w : WD} {j : JB} {r : Nat} {G : GH} {s0 : Int32}
    (kt : s0 = 0 → wk_V w mJ13_equals j 54 [] [] G r)
    (kf : ¬ (s0 = 0) → wk_V w mJ13_equals j 50 [] [] G r)
    : wk_V w mJ13_equals j 47 [] [vI s0] G r := by
  exact wk_if_eq 54 dJ13_equals_47 (by decide) (fun h => (kt h)) (fun h => (kf h))
theorem blJ13_equals_50 {w : WD} {j : JB} {r : Nat} {G : GH}
    (k : wk_V w mJ13_equals j 55 [] [vI (1 : Int32)] G r)
    : wk_V w mJ13_equals j 50 [] [] G r := by
  refine wk_iconst (1 : Int32) dJ13_equals_50 (by decide) ?_
  exact wk_goto 55 dJ13_equals_51 (by decide) k
theorem blJ13_equals_54 {w : WD} {j : JB} {r : Nat} {G : GH}
    (k : wk_V w mJ13_equals j 55 [] [vI (0 : Int32)] G r)
    : wk_V w mJ13_equals j 54 [] [] G r := by
  refine wk_iconst (0 : Int32) dJ13_equals_54 (by decide) ?_
  exact k
theorem blJ13_equals_55 {w : WD} {j : JB} {r : Nat} {G : GH} {s0 : Int32}
    (hn : narrow .boolean (.int s0) = .int s0)
    (hP : j.2.2.1 (some (vI s0)) G)
    : wk_V w mJ13_equals j 55 [] [vI s0] G r := by
  exact wk_ireturn rfl hn dJ13_equals_55 hP
/-! java/lang/String.hashCode()I -/
theorem blJ13_hashCode_0 {w : WD} {j : JB} {r : Nat} {G : GH} {a0 : Nat}
    (hk1 : hp_kd G a0 = 26)
    (kt : ¬ ((hp_i G a0 2) = 0) → wk_V w mJ13_hashCode j 58 [(1, vI (hp_i G a0 2))] [] G r)
    (kf : (hp_i G a0 2) = 0 → wk_V w mJ13_hashCode j 9 [(0, vR (some a0)), (1, vI (hp_i G a0 2))] [] G r)
    : wk_V w mJ13_hashCode j 0 [(0, vR (some a0))] [] G r := by
  refine wk_aload_n 0 dJ13_hashCode_0 rfl rfl ?_
  refine wk_getI 26 2 flJ13_19 rfl hk1 dJ13_hashCode_1 ?_
  refine wk_istore_n 1 dJ13_hashCode_4 rfl (Nat.le_of_ble_eq_true rfl) ?_
  refine wk_iload_n 1 dJ13_hashCode_5 rfl rfl ?_
  exact wk_if_ne 58 dJ13_hashCode_6 (by decide) (fun h => (wk_sub [(1, vI (hp_i G a0 2))] ⟨rfl, trivial⟩ (kt h))) (fun h => (kf h))
theorem blJ13_hashCode_9 {w : WD} {j : JB} {r : Nat} {G : GH} {a0 : Nat} {x1 : Int32}
    (hk1 : hp_kd G a0 = 26)
    (kt : ¬ ((hp_i G a0 3) = 0) → wk_V w mJ13_hashCode j 58 [(1, vI x1)] [] G r)
    (kf : (hp_i G a0 3) = 0 → wk_V w mJ13_hashCode j 16 [(0, vR (some a0))] [] G r)
    : wk_V w mJ13_hashCode j 9 [(0, vR (some a0)), (1, vI x1)] [] G r := by
  refine wk_aload_n 0 dJ13_hashCode_9 rfl rfl ?_
  refine wk_getI 26 3 flJ13_23 rfl hk1 dJ13_hashCode_10 ?_
  exact wk_if_ne 58 dJ13_hashCode_13 (by decide) (fun h => (wk_sub [(1, vI x1)] ⟨rfl, trivial⟩ (kt h))) (fun h => (wk_sub [(0, vR (some a0))] ⟨rfl, trivial⟩ (kf h)))
theorem blJ13_hashCode_16 {w : WD} {j : JB} {r : Nat} {G : GH} {a0 : Nat} {d' b' : Nat} {P : Option WV → GH → Prop} {PX : String → Nat → GH → Prop}
    (hkr : hp_kd G a0 = 26)
    (hC : wk_C w mJ13_isLatin1 d' b' [vR (some a0)] G P PX)
    (hdp : d' + 1 ≤ j.1)
    (hb : b' ≤ r)
    (kr : ∀ v G', P v G' → wk_V w mJ13_hashCode j 20 [(0, vR (some a0))] (v.toList ++ []) G' (r - b'))
    (kx : ∀ E q G', PX E q G' → wk_T w mJ13_hashCode j 17 [(0, vR (some a0))] G' (r - b') E q)
    : wk_V w mJ13_hashCode j 16 [(0, vR (some a0))] [] G r := by
  refine wk_aload_n 0 dJ13_hashCode_16 rfl rfl ?_
  exact wk_callV hC rfl q918 q919 q920 q129 q921 mdJ13_isLatin1 (Nat.le_of_ble_eq_true rfl) ⟨by show hp_kd G a0 ≠ 0; rw [hkr]; decide, by show hp_kd G a0 < 28; rw [hkr]; decide, by show hp_C (hp_kd G a0) = _; rw [hkr]; rfl⟩ rfl rfl (Nat.le_of_ble_eq_true rfl) hdp hb dJ13_hashCode_17 kr kx
theorem blJ13_hashCode_20 {w : WD} {j : JB} {r : Nat} {G : GH} {a0 : Nat} {s0 : Int32}
    (kt : s0 = 0 → wk_V w mJ13_hashCode j 33 [(0, vR (some a0))] [] G r)
    (kf : ¬ (s0 = 0) → wk_V w mJ13_hashCode j 23 [(0, vR (some a0))] [] G r)
    : wk_V w mJ13_hashCode j 20 [(0, vR (some a0))] [vI s0] G r := by
  exact wk_if_eq 33 dJ13_hashCode_20 (by decide) (fun h => (kt h)) (fun h => (kf h))
theorem blJ13_hashCode_23 {w : WD} {j : JB} {r : Nat} {G : GH} {a0 : Nat} {d' b' : Nat} {P : Option WV → GH → Prop} {PX : String → Nat → GH → Prop}
    (hk1 : hp_kd G a0 = 26)
    (hC : wk_C w mJ18_hashCode d' b' [vR (hp_r G a0 0)] G P PX)
    (hdp : d' + 1 ≤ j.1)
    (hb : b' ≤ r)
    (kr : ∀ v G', P v G' → wk_V w mJ13_hashCode j 30 [(0, vR (some a0))] (v.toList ++ []) G' (r - b'))
    (kx : ∀ E q G', PX E q G' → wk_T w mJ13_hashCode j 27 [(0, vR (some a0))] G' (r - b') E q)
    : wk_V w mJ13_hashCode j 23 [(0, vR (some a0))] [] G r := by
  refine wk_aload_n 0 dJ13_hashCode_23 rfl rfl ?_
  refine wk_getR 26 0 flJ13_9 rfl hk1 dJ13_hashCode_24 ?_
  exact wk_callS hC rfl q922 q923 q135 q924 mdJ18_hashCode (Nat.le_of_ble_eq_true rfl) rfl rfl (Nat.le_of_ble_eq_true rfl) hdp hb dJ13_hashCode_27 kr kx
theorem blJ13_hashCode_30 {w : WD} {j : JB} {r : Nat} {G : GH} {a0 : Nat} {s0 : Int32}
    (k : wk_V w mJ13_hashCode j 40 [(0, vR (some a0))] [vI s0] G r)
    : wk_V w mJ13_hashCode j 30 [(0, vR (some a0))] [vI s0] G r := by
  exact wk_goto 40 dJ13_hashCode_30 (by decide) k
-- blJ13_hashCode_33: left out (callee ('java/lang/StringUTF16', 'hashCode', '([B)I'))
theorem blJ13_hashCode_40 {w : WD} {j : JB} {r : Nat} {G : GH} {a0 : Nat} {s0 : Int32}
    (kt : ¬ (s0 = 0) → wk_V w mJ13_hashCode j 53 [(0, vR (some a0)), (1, vI s0)] [] G r)
    (kf : s0 = 0 → wk_V w mJ13_hashCode j 45 [(0, vR (some a0)), (1, vI s0)] [] G r)
    : wk_V w mJ13_hashCode j 40 [(0, vR (some a0))] [vI s0] G r := by
  refine wk_istore_n 1 dJ13_hashCode_40 rfl (Nat.le_of_ble_eq_true rfl) ?_
  refine wk_iload_n 1 dJ13_hashCode_41 rfl rfl ?_
  exact wk_if_ne 53 dJ13_hashCode_42 (by decide) (fun h => (kt h)) (fun h => (kf h))
theorem blJ13_hashCode_45 {w : WD} {j : JB} {r : Nat} {G : GH} {a0 : Nat} {x1 : Int32}
    (hk1 : hp_kd G a0 = 26)
    (hA2 : hp_A w a0)
    (k : wk_V w mJ13_hashCode j 58 [(1, vI x1)] [] (hp_sI G a0 3 (1 : Int32)) r)
    : wk_V w mJ13_hashCode j 45 [(0, vR (some a0)), (1, vI x1)] [] G r := by
  refine wk_aload_n 0 dJ13_hashCode_45 rfl rfl ?_
  refine wk_iconst (1 : Int32) dJ13_hashCode_46 (by decide) ?_
  refine wk_putI 26 3 flJ13_23 rfl (Or.inl rfl) hk1 hA2 ⟨rfl, rfl⟩ dJ13_hashCode_47 ?_
  exact wk_goto 58 dJ13_hashCode_50 (by decide) (wk_sub [(1, vI x1)] ⟨rfl, trivial⟩ k)
theorem blJ13_hashCode_53 {w : WD} {j : JB} {r : Nat} {G : GH} {a0 : Nat} {x1 : Int32}
    (hk1 : hp_kd G a0 = 26)
    (hA2 : hp_A w a0)
    (k : wk_V w mJ13_hashCode j 58 [(1, vI x1)] [] (hp_sI G a0 2 x1) r)
    : wk_V w mJ13_hashCode j 53 [(0, vR (some a0)), (1, vI x1)] [] G r := by
  refine wk_aload_n 0 dJ13_hashCode_53 rfl rfl ?_
  refine wk_iload_n 1 dJ13_hashCode_54 rfl rfl ?_
  refine wk_putI 26 2 flJ13_19 rfl (Or.inl rfl) hk1 hA2 ⟨rfl, rfl⟩ dJ13_hashCode_55 ?_
  exact (wk_sub [(1, vI x1)] ⟨rfl, trivial⟩ k)
theorem blJ13_hashCode_58 {w : WD} {j : JB} {r : Nat} {G : GH} {x1 : Int32}
    (hP : j.2.2.1 (some (vI x1)) G)
    : wk_V w mJ13_hashCode j 58 [(1, vI x1)] [] G r := by
  refine wk_iload_n 1 dJ13_hashCode_58 rfl rfl ?_
  exact wk_ireturn rfl rfl dJ13_hashCode_59 hP
/-! java/lang/String.<init>(Ljava/lang/StringBuilder;)V -/
theorem blJ13_init_0 {w : WD} {j : JB} {r : Nat} {G : GH} {a0 : Nat} {a1 : Option Nat} {d' b' : Nat} {P : Option WV → GH → Prop} {PX : String → Nat → GH → Prop}
    (hC : wk_C w mJ13_init_2 d' b' [vR (some a0), vR a1, vR none] G P PX)
    (hdp : d' + 1 ≤ j.1)
    (hb : b' ≤ r)
    (kr : ∀ v G', P v G' → wk_V w mJ13_init j 6 [] (v.toList ++ []) G' (r - b'))
    (kx : ∀ E q G', PX E q G' → wk_T w mJ13_init j 3 [(0, vR (some a0)), (1, vR a1)] G' (r - b') E q)
    : wk_V w mJ13_init j 0 [(0, vR (some a0)), (1, vR a1)] [] G r := by
  refine wk_aload_n 0 dJ13_init_0 rfl rfl ?_
  refine wk_aload_n 1 dJ13_init_1 rfl rfl ?_
  refine wk_null dJ13_init_2 ?_
  exact wk_callI hC rfl rfl rfl q684 q685 q129 q686 mdJ13_init_2 (Nat.le_of_ble_eq_true rfl) rfl rfl (Nat.le_of_ble_eq_true rfl) hdp hb dJ13_init_3 (fun v G' h => (wk_sub [] trivial (kr v G' h))) kx
theorem blJ13_init_6 {w : WD} {j : JB} {r : Nat} {G : GH}
    (hP : j.2.2.1 none G)
    : wk_V w mJ13_init j 6 [] [] G r := by
  exact wk_return rfl dJ13_init_6 hP
/-! java/lang/String.<init>(Ljava/lang/AbstractStringBuilder;Ljava/lang/Void;)V -/
theorem blJ13_init_2_0 {w : WD} {j : JB} {r : Nat} {G : GH} {a0 : Nat} {a1 : Option Nat}
    (hdp : 1 ≤ j.1)
    (k : wk_V w mJ13_init_2 j 4 [(0, vR (some a0)), (1, vR a1)] [] G r)
    : wk_V w mJ13_init_2 j 0 [(0, vR (some a0)), (1, vR a1)] [] G r := by
  refine wk_aload_n 0 dJ13_init_2_0 rfl rfl ?_
  exact wk_objInit q687 q171 q172 (by decide) hdp dJ13_init_2_1 k
theorem blJ13_init_2_4 {w : WD} {j : JB} {r : Nat} {G : GH} {a0 : Nat} {a1 : Option Nat} {o1 : Nat} {d' b' : Nat} {P : Option WV → GH → Prop} {PX : String → Nat → GH → Prop}
    (e1 : a1 = some o1)
    (hkr : hp_kd G o1 = 27)
    (hC : wk_C w mJ11_getValue d' b' [vR (some o1)] G P PX)
    (hdp : d' + 1 ≤ j.1)
    (hb : b' ≤ r)
    (kr : ∀ v G', P v G' → wk_V w mJ13_init_2 j 8 [(0, vR (some a0)), (1, vR a1)] (v.toList ++ []) G' (r - b'))
    (kx : ∀ E q G', PX E q G' → wk_T w mJ13_init_2 j 5 [(0, vR (some a0)), (1, vR a1)] G' (r - b') E q)
    : wk_V w mJ13_init_2 j 4 [(0, vR (some a0)), (1, vR a1)] [] G r := by
  refine wk_aload_n 1 dJ13_init_2_4 rfl rfl ?_
  refine wk_eAt 0 e1 rfl ?_
  exact wk_callU (n := 0) (x := ⟨"java/lang/AbstractStringBuilder", "getValue", "()[B"⟩) "java/lang/AbstractStringBuilder" hC rfl (Or.inr ⟨q689, _, _, _, q692⟩) q688 q690 q689 (by show Cond.selects (hp_C (hp_kd G o1)) _ _ ∈ lw_all; rw [hkr]; exact q691) q127 q692 (by decide +kernel) (Nat.le_of_ble_eq_true rfl) ⟨by show hp_kd G o1 ≠ 0; rw [hkr]; decide, by show hp_kd G o1 < 28; rw [hkr]; decide⟩ rfl rfl (Nat.le_of_ble_eq_true rfl) hdp hb dJ13_init_2_5 kr kx
theorem blJ13_init_2_8 {w : WD} {j : JB} {r : Nat} {G : GH} {a0 : Nat} {a1 : Option Nat} {sa0 : Option Nat} {o1 : Nat} {d' b' : Nat} {P : Option WV → GH → Prop} {PX : String → Nat → GH → Prop}
    (e1 : a1 = some o1)
    (hkr : hp_kd G o1 = 27)
    (hC : wk_C w mJ12_length d' b' [vR (some o1)] G P PX)
    (hdp : d' + 1 ≤ j.1)
    (hb : b' ≤ r)
    (kr : ∀ v G', P v G' → wk_V w mJ13_init_2 j 13 [(0, vR (some a0)), (1, vR a1), (3, vR sa0)] (v.toList ++ []) G' (r - b'))
    (kx : ∀ E q G', PX E q G' → wk_T w mJ13_init_2 j 10 [(0, vR (some a0)), (1, vR a1), (3, vR sa0)] G' (r - b') E q)
    : wk_V w mJ13_init_2 j 8 [(0, vR (some a0)), (1, vR a1)] [vR sa0] G r := by
  refine wk_astore_n 3 dJ13_init_2_8 rfl (Nat.le_of_ble_eq_true rfl) ?_
  refine wk_aload_n 1 dJ13_init_2_9 rfl rfl ?_
  refine wk_eAt 0 e1 rfl ?_
  exact wk_callU (n := 0) (x := ⟨"java/lang/AbstractStringBuilder", "length", "()I"⟩) "java/lang/AbstractStringBuilder" hC rfl (Or.inr ⟨q694, _, _, _, q700⟩) q693 q695 q697 (by show Cond.selects (hp_C (hp_kd G o1)) _ _ ∈ lw_all; rw [hkr]; exact q696) q128 q698 (by decide +kernel) (Nat.le_of_ble_eq_true rfl) ⟨by show hp_kd G o1 ≠ 0; rw [hkr]; decide, by show hp_kd G o1 < 28; rw [hkr]; decide⟩ rfl rfl (Nat.le_of_ble_eq_true rfl) hdp hb dJ13_init_2_10 kr kx
theorem blJ13_init_2_13 {w : WD} {j : JB} {r : Nat} {G : GH} {a0 : Nat} {a1 : Option Nat} {a3 : Option Nat} {s0 : Int32} {o1 : Nat} {d' b' : Nat} {P : Option WV → GH → Prop} {PX : String → Nat → GH → Prop}
    (e1 : a1 = some o1)
    (hkr : hp_kd G o1 = 27)
    (hC : wk_C w mJ11_isLatin1 d' b' [vR (some o1)] G P PX)
    (hdp : d' + 1 ≤ j.1)
    (hb : b' ≤ r)
    (kr : ∀ v G', P v G' → wk_V w mJ13_init_2 j 19 [(0, vR (some a0)), (1, vR a1), (3, vR a3), (4, vI s0)] (v.toList ++ []) G' (r - b'))
    (kx : ∀ E q G', PX E q G' → wk_T w mJ13_init_2 j 16 [(0, vR (some a0)), (1, vR a1), (3, vR a3), (4, vI s0)] G' (r - b') E q)
    : wk_V w mJ13_init_2 j 13 [(0, vR (some a0)), (1, vR a1), (3, vR a3)] [vI s0] G r := by
  refine wk_istore dJ13_init_2_13 (Nat.le_of_ble_eq_true rfl) ?_
  refine wk_aload_n 1 dJ13_init_2_15 rfl rfl ?_
  refine wk_eAt 0 e1 rfl ?_
  exact wk_callU (n := 0) (x := ⟨"java/lang/AbstractStringBuilder", "isLatin1", "()Z"⟩) "java/lang/AbstractStringBuilder" hC rfl (Or.inr ⟨q619, _, _, _, q622⟩) q701 q620 q619 (by show Cond.selects (hp_C (hp_kd G o1)) _ _ ∈ lw_all; rw [hkr]; exact q621) q127 q622 (by decide +kernel) (Nat.le_of_ble_eq_true rfl) ⟨by show hp_kd G o1 ≠ 0; rw [hkr]; decide, by show hp_kd G o1 < 28; rw [hkr]; decide⟩ rfl rfl (Nat.le_of_ble_eq_true rfl) hdp hb dJ13_init_2_16 kr kx
theorem blJ13_init_2_19 {w : WD} {j : JB} {r : Nat} {G : GH} {a0 : Nat} {a1 : Option Nat} {a3 : Option Nat} {x4 : Int32} {s0 : Int32}
    (kt : s0 = 0 → wk_V w mJ13_init_2 j 41 [(0, vR (some a0)), (1, vR a1), (3, vR a3), (4, vI x4)] [] G r)
    (kf : ¬ (s0 = 0) → wk_V w mJ13_init_2 j 22 [(0, vR (some a0)), (3, vR a3), (4, vI x4)] [] G r)
    : wk_V w mJ13_init_2 j 19 [(0, vR (some a0)), (1, vR a1), (3, vR a3), (4, vI x4)] [vI s0] G r := by
  exact wk_if_eq 41 dJ13_init_2_19 (by decide) (fun h => (kt h)) (fun h => (wk_sub [(0, vR (some a0)), (3, vR a3), (4, vI x4)] ⟨rfl, rfl, rfl, trivial⟩ (kf h)))
theorem blJ13_init_2_22 {w : WD} {j : JB} {r : Nat} {G : GH} {a0 : Nat} {a3 : Option Nat} {x4 : Int32} {d' b' : Nat} {P : Option WV → GH → Prop} {PX : String → Nat → GH → Prop}
    (hk1 : hp_kd G a0 = 26)
    (hA2 : hp_A w a0)
    (hC : wk_C w mJ17_copyOfRange d' b' [vR a3, vI (0 : Int32), vI x4] (hp_sI G a0 1 (0 : Int32)) P PX)
    (hdp : d' + 1 ≤ j.1)
    (hb : b' ≤ r)
    (kr : ∀ v G', P v G' → wk_V w mJ13_init_2 j 35 [] (v.toList ++ [vR (some a0)]) G' (r - b'))
    (kx : ∀ E q G', PX E q G' → wk_T w mJ13_init_2 j 32 [(0, vR (some a0)), (3, vR a3), (4, vI x4)] G' (r - b') E q)
    : wk_V w mJ13_init_2 j 22 [(0, vR (some a0)), (3, vR a3), (4, vI x4)] [] G r := by
  refine wk_aload_n 0 dJ13_init_2_22 rfl rfl ?_
  refine wk_iconst (0 : Int32) dJ13_init_2_23 (by decide) ?_
  refine wk_putI 26 1 flJ13_15 rfl (Or.inr ⟨rfl, rfl⟩) hk1 hA2 ⟨rfl, rfl⟩ dJ13_init_2_24 ?_
  refine wk_aload_n 0 dJ13_init_2_27 rfl rfl ?_
  refine wk_aload_n 3 dJ13_init_2_28 rfl rfl ?_
  refine wk_iconst (0 : Int32) dJ13_init_2_29 (by decide) ?_
  refine wk_iload dJ13_init_2_30 rfl ?_
  exact wk_callS hC rfl q702 q703 q133 q704 mdJ17_copyOfRange (Nat.le_of_ble_eq_true rfl) rfl rfl (Nat.le_of_ble_eq_true rfl) hdp hb dJ13_init_2_32 (fun v G' h => (wk_sub [] trivial (kr v G' h))) kx
theorem blJ13_init_2_35 {w : WD} {j : JB} {r : Nat} {G : GH} {s0 : Option Nat} {sa1 : Option Nat} {o1 : Nat}
    (e1 : s0 = some o1)
    (hk2 : hp_kd G o1 = 26)
    (hA3 : hp_A w o1)
    (k : wk_V w mJ13_init_2 j 97 [] [] (hp_sR G o1 0 sa1) r)
    : wk_V w mJ13_init_2 j 35 [] [vR sa1, vR s0] G r := by
  refine wk_e2 e1 ?_
  refine wk_putR 26 0 flJ13_9 rfl (Or.inr ⟨rfl, rfl⟩) hk2 hA3 dJ13_init_2_35 ?_
  exact wk_goto 97 dJ13_init_2_38 (by decide) k
theorem blJ13_init_2_41 {w : WD} {j : JB} {r : Nat} {G : GH} {a0 : Nat} {a1 : Option Nat} {a3 : Option Nat} {x4 : Int32}
    (kt : (1 : Int32) = 0 → wk_V w mJ13_init_2 j 79 [(0, vR (some a0)), (3, vR a3), (4, vI x4)] [] G r)
    (kf : ¬ ((1 : Int32) = 0) → wk_V w mJ13_init_2 j 47 [(0, vR (some a0)), (1, vR a1), (3, vR a3), (4, vI x4)] [] G r)
    : wk_V w mJ13_init_2 j 41 [(0, vR (some a0)), (1, vR a1), (3, vR a3), (4, vI x4)] [] G r := by
  refine wk_getsI (C := "java/lang/String") (n := "COMPACT_STRINGS") (d := "Z") (1 : Int32) (by decide +kernel) q779 dJ13_init_2_41 ?_
  exact wk_if_eq 79 dJ13_init_2_44 (by decide) (fun h => (wk_sub [(0, vR (some a0)), (3, vR a3), (4, vI x4)] ⟨rfl, rfl, rfl, trivial⟩ (kt h))) (fun h => (kf h))
theorem blJ13_init_2_47 {w : WD} {j : JB} {r : Nat} {G : GH} {a0 : Nat} {a1 : Option Nat} {a3 : Option Nat} {x4 : Int32} {o1 : Nat}
    (e1 : a1 = some o1)
    (hk2 : hp_kd G o1 = 27)
    (kt : (hp_i G o1 2) = 0 → wk_V w mJ13_init_2 j 79 [(0, vR (some a0)), (3, vR a3), (4, vI x4)] [] G r)
    (kf : ¬ ((hp_i G o1 2) = 0) → wk_V w mJ13_init_2 j 54 [(0, vR (some a0)), (3, vR a3), (4, vI x4)] [] G r)
    : wk_V w mJ13_init_2 j 47 [(0, vR (some a0)), (1, vR a1), (3, vR a3), (4, vI x4)] [] G r := by
  refine wk_aload_n 1 dJ13_init_2_47 rfl rfl ?_
  refine wk_e e1 ?_
  refine wk_getI 27 2 flJ13_1048 rfl hk2 dJ13_init_2_48 ?_
  exact wk_if_eq 79 dJ13_init_2_51 (by decide) (fun h => (wk_sub [(0, vR (some a0)), (3, vR a3), (4, vI x4)] ⟨rfl, rfl, rfl, trivial⟩ (kt h))) (fun h => (wk_sub [(0, vR (some a0)), (3, vR a3), (4, vI x4)] ⟨rfl, rfl, rfl, trivial⟩ (kf h)))
-- blJ13_init_2_54: left out (callee ('java/lang/StringUTF16', 'compress', '([BII)[B'))
-- blJ13_init_2_62: left out (callee ('java/lang/StringUTF16', 'coderFromArrayLen', '([BI)B'))
theorem blJ13_init_2_75 {w : WD} {j : JB} {r : Nat} {G : GH} {s0 : Option Nat} {s1 : Int32} {o1 : Nat}
    (e1 : s0 = some o1)
    (hk2 : hp_kd G o1 = 26)
    (hA3 : hp_A w o1)
    (hok4 : hp_ok .byte s1)
    (hP : j.2.2.1 none (hp_sI G o1 1 s1))
    : wk_V w mJ13_init_2 j 75 [] [vI s1, vR s0] G r := by
  refine wk_e2 e1 ?_
  refine wk_putI 26 1 flJ13_15 rfl (Or.inr ⟨rfl, rfl⟩) hk2 hA3 hok4 dJ13_init_2_75 ?_
  exact wk_return rfl dJ13_init_2_78 hP
theorem blJ13_init_2_79 {w : WD} {j : JB} {r : Nat} {G : GH} {a0 : Nat} {a3 : Option Nat} {x4 : Int32} {d' b' : Nat} {P : Option WV → GH → Prop} {PX : String → Nat → GH → Prop}
    (hk1 : hp_kd G a0 = 26)
    (hA2 : hp_A w a0)
    (hC : wk_C w mJ17_copyOfRange d' b' [vR a3, vI (0 : Int32), vI (x4 <<< ((1 : Int32) &&& 31))] (hp_sI G a0 1 (1 : Int32)) P PX)
    (hdp : d' + 1 ≤ j.1)
    (hb : b' ≤ r)
    (kr : ∀ v G', P v G' → wk_V w mJ13_init_2 j 94 [] (v.toList ++ [vR (some a0)]) G' (r - b'))
    (kx : ∀ E q G', PX E q G' → wk_T w mJ13_init_2 j 91 [(0, vR (some a0)), (3, vR a3), (4, vI x4)] G' (r - b') E q)
    : wk_V w mJ13_init_2 j 79 [(0, vR (some a0)), (3, vR a3), (4, vI x4)] [] G r := by
  refine wk_aload_n 0 dJ13_init_2_79 rfl rfl ?_
  refine wk_iconst (1 : Int32) dJ13_init_2_80 (by decide) ?_
  refine wk_putI 26 1 flJ13_15 rfl (Or.inr ⟨rfl, rfl⟩) hk1 hA2 ⟨rfl, rfl⟩ dJ13_init_2_81 ?_
  refine wk_aload_n 0 dJ13_init_2_84 rfl rfl ?_
  refine wk_aload_n 3 dJ13_init_2_85 rfl rfl ?_
  refine wk_iconst (0 : Int32) dJ13_init_2_86 (by decide) ?_
  refine wk_iload dJ13_init_2_87 rfl ?_
  refine wk_iconst (1 : Int32) dJ13_init_2_89 (by decide) ?_
  refine wk_ishl dJ13_init_2_90 ?_
  exact wk_callS hC rfl q702 q703 q133 q704 mdJ17_copyOfRange (Nat.le_of_ble_eq_true rfl) rfl rfl (Nat.le_of_ble_eq_true rfl) hdp hb dJ13_init_2_91 (fun v G' h => (wk_sub [] trivial (kr v G' h))) kx
theorem blJ13_init_2_94 {w : WD} {j : JB} {r : Nat} {G : GH} {s0 : Option Nat} {sa1 : Option Nat} {o1 : Nat}
    (e1 : s0 = some o1)
    (hk2 : hp_kd G o1 = 26)
    (hA3 : hp_A w o1)
    (k : wk_V w mJ13_init_2 j 97 [] [] (hp_sR G o1 0 sa1) r)
    : wk_V w mJ13_init_2 j 94 [] [vR sa1, vR s0] G r := by
  refine wk_e2 e1 ?_
  refine wk_putR 26 0 flJ13_9 rfl (Or.inr ⟨rfl, rfl⟩) hk2 hA3 dJ13_init_2_94 ?_
  exact k
theorem blJ13_init_2_97 {w : WD} {j : JB} {r : Nat} {G : GH}
    (hP : j.2.2.1 none G)
    : wk_V w mJ13_init_2 j 97 [] [] G r := by
  exact wk_return rfl dJ13_init_2_97 hP
/-! java/lang/String.isLatin1()Z -/
theorem blJ13_isLatin1_0 {w : WD} {j : JB} {r : Nat} {G : GH} {a0 : Nat}
    (kt : (1 : Int32) = 0 → wk_V w mJ13_isLatin1 j 17 [] [] G r)
    (kf : ¬ ((1 : Int32) = 0) → wk_V w mJ13_isLatin1 j 6 [(0, vR (some a0))] [] G r)
    : wk_V w mJ13_isLatin1 j 0 [(0, vR (some a0))] [] G r := by
  refine wk_getsI (C := "java/lang/String") (n := "COMPACT_STRINGS") (d := "Z") (1 : Int32) (by decide +kernel) q779 dJ13_isLatin1_0 ?_
  exact wk_if_eq 17 dJ13_isLatin1_3 (by decide) (fun h => (wk_sub [] trivial (kt h))) (fun h => (kf h))
theorem blJ13_isLatin1_6 {w : WD} {j : JB} {r : Nat} {G : GH} {a0 : Nat}
    (hk1 : hp_kd G a0 = 26)
    (kt : ¬ ((hp_i G a0 1) = 0) → wk_V w mJ13_isLatin1 j 17 [] [] G r)
    (kf : (hp_i G a0 1) = 0 → wk_V w mJ13_isLatin1 j 13 [] [] G r)
    : wk_V w mJ13_isLatin1 j 6 [(0, vR (some a0))] [] G r := by
  refine wk_aload_n 0 dJ13_isLatin1_6 rfl rfl ?_
  refine wk_getI 26 1 flJ13_15 rfl hk1 dJ13_isLatin1_7 ?_
  exact wk_if_ne 17 dJ13_isLatin1_10 (by decide) (fun h => (wk_sub [] trivial (kt h))) (fun h => (wk_sub [] trivial (kf h)))
theorem blJ13_isLatin1_13 {w : WD} {j : JB} {r : Nat} {G : GH}
    (k : wk_V w mJ13_isLatin1 j 18 [] [vI (1 : Int32)] G r)
    : wk_V w mJ13_isLatin1 j 13 [] [] G r := by
  refine wk_iconst (1 : Int32) dJ13_isLatin1_13 (by decide) ?_
  exact wk_goto 18 dJ13_isLatin1_14 (by decide) k
theorem blJ13_isLatin1_17 {w : WD} {j : JB} {r : Nat} {G : GH}
    (k : wk_V w mJ13_isLatin1 j 18 [] [vI (0 : Int32)] G r)
    : wk_V w mJ13_isLatin1 j 17 [] [] G r := by
  refine wk_iconst (0 : Int32) dJ13_isLatin1_17 (by decide) ?_
  exact k
theorem blJ13_isLatin1_18 {w : WD} {j : JB} {r : Nat} {G : GH} {s0 : Int32}
    (hn : narrow .boolean (.int s0) = .int s0)
    (hP : j.2.2.1 (some (vI s0)) G)
    : wk_V w mJ13_isLatin1 j 18 [] [vI s0] G r := by
  exact wk_ireturn rfl hn dJ13_isLatin1_18 hP
/-! java/lang/String.length()I -/
theorem blJ13_length_0 {w : WD} {j : JB} {r : Nat} {G : GH} {a0 : Nat} {o2 : Nat} {d' b' : Nat} {P : Option WV → GH → Prop} {PX : String → Nat → GH → Prop}
    (hk1 : hp_kd G a0 = 26)
    (e2 : (hp_r G a0 0) = some o2)
    (hk3 : 28 ≤ hp_kd G o2)
    (hC : wk_C w mJ13_coder d' b' [vR (some a0)] G P PX)
    (hdp : d' + 1 ≤ j.1)
    (hb : b' ≤ r)
    (kr : ∀ v G', P v G' → wk_V w mJ13_length j 9 [] (v.toList ++ [vI (nI (hp_ln G o2))]) G' (r - b'))
    (kx : ∀ E q G', PX E q G' → wk_T w mJ13_length j 6 [(0, vR (some a0))] G' (r - b') E q)
    : wk_V w mJ13_length j 0 [(0, vR (some a0))] [] G r := by
  refine wk_aload_n 0 dJ13_length_0 rfl rfl ?_
  refine wk_getR 26 0 flJ13_9 rfl hk1 dJ13_length_1 ?_
  refine wk_e e2 ?_
  refine wk_alen hk3 dJ13_length_4 ?_
  refine wk_aload_n 0 dJ13_length_5 rfl rfl ?_
  exact wk_callV hC rfl q775 q776 q777 q129 q778 mdJ13_coder (Nat.le_of_ble_eq_true rfl) ⟨by show hp_kd G a0 ≠ 0; rw [hk1]; decide, by show hp_kd G a0 < 28; rw [hk1]; decide, by show hp_C (hp_kd G a0) = _; rw [hk1]; rfl⟩ rfl rfl (Nat.le_of_ble_eq_true rfl) hdp hb dJ13_length_6 (fun v G' h => (wk_sub [] trivial (kr v G' h))) kx
theorem blJ13_length_9 {w : WD} {j : JB} {r : Nat} {G : GH} {s0 : Int32} {s1 : Int32}
    (hP : j.2.2.1 (some (vI (s0 >>> (s1 &&& 31)))) G)
    : wk_V w mJ13_length j 9 [] [vI s1, vI s0] G r := by
  refine wk_ishr dJ13_length_9 ?_
  exact wk_ireturn rfl rfl dJ13_length_10 hP
/-! jdk/internal/util/ArraysSupport.signedHashCode(I[BII)I -/
theorem blJ15_signedHashCode_0 {w : WD} {j : JB} {r : Nat} {G : GH} {x0 : Int32} {a1 : Option Nat} {x2 : Int32} {x3 : Int32}
    (k : wk_V w mJ15_signedHashCode j 8 [(0, vI x0), (1, vR a1), (4, vI (x2 + x3)), (5, vI x2)] [] G r)
    : wk_V w mJ15_signedHashCode j 0 [(0, vI x0), (1, vR a1), (2, vI x2), (3, vI x3)] [] G r := by
  refine wk_iload_n 2 dJ15_signedHashCode_0 rfl rfl ?_
  refine wk_iload_n 3 dJ15_signedHashCode_1 rfl rfl ?_
  refine wk_iadd dJ15_signedHashCode_2 ?_
  refine wk_istore dJ15_signedHashCode_3 (Nat.le_of_ble_eq_true rfl) ?_
  refine wk_iload_n 2 dJ15_signedHashCode_5 rfl rfl ?_
  refine wk_istore dJ15_signedHashCode_6 (Nat.le_of_ble_eq_true rfl) ?_
  exact (wk_sub [(0, vI x0), (1, vR a1), (4, vI (x2 + x3)), (5, vI x2)] ⟨rfl, rfl, rfl, rfl, trivial⟩ k)
theorem blJ15_signedHashCode_8 {w : WD} {j : JB} {r : Nat} {G : GH} {x0 : Int32} {a1 : Option Nat} {x4 : Int32} {x5 : Int32}
    (kt : x4 ≤ x5 → wk_V w mJ15_signedHashCode j 35 [(0, vI x0)] [] G r)
    (kf : ¬ (x4 ≤ x5) → wk_V w mJ15_signedHashCode j 15 [(0, vI x0), (1, vR a1), (4, vI x4), (5, vI x5)] [] G r)
    : wk_V w mJ15_signedHashCode j 8 [(0, vI x0), (1, vR a1), (4, vI x4), (5, vI x5)] [] G r := by
  refine wk_iload dJ15_signedHashCode_8 rfl ?_
  refine wk_iload dJ15_signedHashCode_10 rfl ?_
  exact wk_icmp_ge 35 dJ15_signedHashCode_12 (by decide) (fun h => (wk_sub [(0, vI x0)] ⟨rfl, trivial⟩ (kt h))) (fun h => (kf h))
theorem blJ15_signedHashCode_15 {w : WD} {j : JB} {r : Nat} {G : GH} {x0 : Int32} {a1 : Option Nat} {x4 : Int32} {x5 : Int32} {o1 : Nat}
    (e1 : a1 = some o1)
    (hi2 : vp_in x5 (hp_ln G o1))
    (hk3 : hp_kd G o1 = 30)
    (k : wk_V w mJ15_signedHashCode j 8 [(0, vI (((31 : Int32) * x0) + ((hp_i G o1 x5.toNatClampNeg) &&& (255 : Int32)))), (1, vR a1), (4, vI x4), (5, vI (x5 + (1 : Int32)))] [] G r)
    : wk_V w mJ15_signedHashCode j 15 [(0, vI x0), (1, vR a1), (4, vI x4), (5, vI x5)] [] G r := by
  refine wk_bipush (31 : Int32) dJ15_signedHashCode_15 (by decide) ?_
  refine wk_iload_n 0 dJ15_signedHashCode_17 rfl rfl ?_
  refine wk_imul dJ15_signedHashCode_18 ?_
  refine wk_aload_n 1 dJ15_signedHashCode_19 rfl rfl ?_
  refine wk_iload dJ15_signedHashCode_20 rfl ?_
  refine wk_e2 e1 ?_
  refine wk_bald hk3 hi2 dJ15_signedHashCode_22 ?_
  refine wk_sipush (255 : Int32) dJ15_signedHashCode_23 (by decide) ?_
  refine wk_iand dJ15_signedHashCode_26 ?_
  refine wk_iadd dJ15_signedHashCode_27 ?_
  refine wk_istore_n 0 dJ15_signedHashCode_28 rfl (Nat.le_of_ble_eq_true rfl) ?_
  refine wk_iincC (1 : Int32) dJ15_signedHashCode_29 rfl (by decide) (Nat.le_of_ble_eq_true rfl) ?_
  exact wk_goto 8 dJ15_signedHashCode_32 (by decide) k
theorem blJ15_signedHashCode_35 {w : WD} {j : JB} {r : Nat} {G : GH} {x0 : Int32}
    (hP : j.2.2.1 (some (vI x0)) G)
    : wk_V w mJ15_signedHashCode j 35 [(0, vI x0)] [] G r := by
  refine wk_iload_n 0 dJ15_signedHashCode_35 rfl rfl ?_
  exact wk_ireturn rfl rfl dJ15_signedHashCode_36 hP
/-! jdk/internal/util/ArraysSupport.vectorizedHashCode(Ljava/lang/Object;IIII)I -/
theorem blJ15_vectorizedHashCode_0 {w : WD} {j : JB} {r : Nat} {G : GH} {a0 : Option Nat} {x1 : Int32} {x2 : Int32} {x3 : Int32} {x4 : Int32}
    (c4 : x4 = (4 : Int32) → wk_V w mJ15_vectorizedHashCode j 44 [(0, vR a0), (1, vI x1), (2, vI x2), (3, vI x3)] [] G r)
    (c5 : x4 = (5 : Int32) → wk_V w mJ15_vectorizedHashCode j 57 [(0, vR a0), (1, vI x1), (2, vI x2), (3, vI x3)] [] G r)
    (c6 : x4 = (6 : Int32) → wk_V w mJ15_vectorizedHashCode j 129 [(4, vI x4)] [] G r)
    (c7 : x4 = (7 : Int32) → wk_V w mJ15_vectorizedHashCode j 129 [(4, vI x4)] [] G r)
    (c8 : x4 = (8 : Int32) → wk_V w mJ15_vectorizedHashCode j 90 [(0, vR a0), (1, vI x1), (2, vI x2), (3, vI x3)] [] G r)
    (c9 : x4 = (9 : Int32) → wk_V w mJ15_vectorizedHashCode j 103 [(0, vR a0), (1, vI x1), (2, vI x2), (3, vI x3)] [] G r)
    (c10 : x4 = (10 : Int32) → wk_V w mJ15_vectorizedHashCode j 116 [(0, vR a0), (1, vI x1), (2, vI x2), (3, vI x3)] [] G r)
    (kd : x4 ≠ (4 : Int32) → x4 ≠ (5 : Int32) → x4 ≠ (6 : Int32) → x4 ≠ (7 : Int32) → x4 ≠ (8 : Int32) → x4 ≠ (9 : Int32) → x4 ≠ (10 : Int32) → wk_V w mJ15_vectorizedHashCode j 129 [(4, vI x4)] [] G r)
    : wk_V w mJ15_vectorizedHashCode j 0 [(0, vR a0), (1, vI x1), (2, vI x2), (3, vI x3), (4, vI x4)] [] G r := by
  refine wk_iload dJ15_vectorizedHashCode_0 rfl ?_
  refine wk_table 7 (fun k => ([44, 57, 129, 129, 90, 103, 116] : List Nat).getD k 0) 129 dJ15_vectorizedHashCode_2 (by decide) (by decide) (fun k hk => ?_) (by decide) (fun k hk e => ?_) (fun h => ?_)
  · match k, hk with
    | 0, _ => exact ⟨42, rfl, by decide⟩
    | 1, _ => exact ⟨55, rfl, by decide⟩
    | 2, _ => exact ⟨127, rfl, by decide⟩
    | 3, _ => exact ⟨127, rfl, by decide⟩
    | 4, _ => exact ⟨88, rfl, by decide⟩
    | 5, _ => exact ⟨101, rfl, by decide⟩
    | 6, _ => exact ⟨114, rfl, by decide⟩
    | k + 7, hk => exact absurd hk (by omega)
  · match k, hk, e with
    | 0, _, e => exact (wk_sub [(0, vR a0), (1, vI x1), (2, vI x2), (3, vI x3)] ⟨rfl, rfl, rfl, rfl, trivial⟩ (c4 (e.trans (by decide))))
    | 1, _, e => exact (wk_sub [(0, vR a0), (1, vI x1), (2, vI x2), (3, vI x3)] ⟨rfl, rfl, rfl, rfl, trivial⟩ (c5 (e.trans (by decide))))
    | 2, _, e => exact (wk_sub [(4, vI x4)] ⟨rfl, trivial⟩ (c6 (e.trans (by decide))))
    | 3, _, e => exact (wk_sub [(4, vI x4)] ⟨rfl, trivial⟩ (c7 (e.trans (by decide))))
    | 4, _, e => exact (wk_sub [(0, vR a0), (1, vI x1), (2, vI x2), (3, vI x3)] ⟨rfl, rfl, rfl, rfl, trivial⟩ (c8 (e.trans (by decide))))
    | 5, _, e => exact (wk_sub [(0, vR a0), (1, vI x1), (2, vI x2), (3, vI x3)] ⟨rfl, rfl, rfl, rfl, trivial⟩ (c9 (e.trans (by decide))))
    | 6, _, e => exact (wk_sub [(0, vR a0), (1, vI x1), (2, vI x2), (3, vI x3)] ⟨rfl, rfl, rfl, rfl, trivial⟩ (c10 (e.trans (by decide))))
    | k + 7, hk, _ => exact absurd hk (by omega)
  · exact (wk_sub [(4, vI x4)] ⟨rfl, trivial⟩ (kd (fun e => h 0 (by decide) (e.trans (by decide))) (fun e => h 1 (by decide) (e.trans (by decide))) (fun e => h 2 (by decide) (e.trans (by decide))) (fun e => h 3 (by decide) (e.trans (by decide))) (fun e => h 4 (by decide) (e.trans (by decide))) (fun e => h 5 (by decide) (e.trans (by decide))) (fun e => h 6 (by decide) (e.trans (by decide)))))
theorem blJ15_vectorizedHashCode_44 {w : WD} {j : JB} {r : Nat} {G : GH} {a0 : Option Nat} {x1 : Int32} {x2 : Int32} {x3 : Int32} {o1 : Nat} {d' b' : Nat} {P : Option WV → GH → Prop} {PX : String → Nat → GH → Prop}
    (e1 : a0 = some o1)
    (hk2 : hp_kd G o1 = 30)
    (hC : wk_C w mJ15_signedHashCode d' b' [vI x3, vR (some o1), vI x1, vI x2] G P PX)
    (hdp : d' + 1 ≤ j.1)
    (hb : b' ≤ r)
    (kr : ∀ v G', P v G' → wk_V w mJ15_vectorizedHashCode j 54 [] (v.toList ++ []) G' (r - b'))
    (kx : ∀ E q G', PX E q G' → wk_T w mJ15_vectorizedHashCode j 51 [(0, vR a0), (1, vI x1), (2, vI x2), (3, vI x3)] G' (r - b') E q)
    : wk_V w mJ15_vectorizedHashCode j 44 [(0, vR a0), (1, vI x1), (2, vI x2), (3, vI x3)] [] G r := by
  refine wk_iload_n 3 dJ15_vectorizedHashCode_44 rfl rfl ?_
  refine wk_aload_n 0 dJ15_vectorizedHashCode_45 rfl rfl ?_
  refine wk_e e1 ?_
  refine wk_castA 30 (by decide) hk2 q928 rfl dJ15_vectorizedHashCode_46 ?_
  refine wk_iload_n 1 dJ15_vectorizedHashCode_49 rfl rfl ?_
  refine wk_iload_n 2 dJ15_vectorizedHashCode_50 rfl rfl ?_
  exact wk_callS hC rfl q929 q930 q131 q931 mdJ15_signedHashCode (Nat.le_of_ble_eq_true rfl) rfl rfl (Nat.le_of_ble_eq_true rfl) hdp hb dJ15_vectorizedHashCode_51 (fun v G' h => (wk_sub [] trivial (kr v G' h))) kx
theorem blJ15_vectorizedHashCode_54 {w : WD} {j : JB} {r : Nat} {G : GH} {s0 : Int32}
    (k : wk_V w mJ15_vectorizedHashCode j 157 [] [vI s0] G r)
    : wk_V w mJ15_vectorizedHashCode j 54 [] [vI s0] G r := by
  exact wk_goto 157 dJ15_vectorizedHashCode_54 (by decide) k
-- blJ15_vectorizedHashCode_57: left out (instanceof)
theorem blJ15_vectorizedHashCode_64 {w : WD} {j : JB} {r : Nat} {G : GH} {a0 : Option Nat} {x1 : Int32} {x2 : Int32} {x3 : Int32} {o1 : Nat} {d' b' : Nat} {P : Option WV → GH → Prop} {PX : String → Nat → GH → Prop}
    (e1 : a0 = some o1)
    (hk2 : hp_kd G o1 = 30)
    (hC : wk_C w mJ15_utf16hashCode d' b' [vI x3, vR (some o1), vI x1, vI x2] G P PX)
    (hdp : d' + 1 ≤ j.1)
    (hb : b' ≤ r)
    (kr : ∀ v G', P v G' → wk_V w mJ15_vectorizedHashCode j 74 [] (v.toList ++ []) G' (r - b'))
    (kx : ∀ E q G', PX E q G' → wk_T w mJ15_vectorizedHashCode j 71 [(0, vR a0), (1, vI x1), (2, vI x2), (3, vI x3)] G' (r - b') E q)
    : wk_V w mJ15_vectorizedHashCode j 64 [(0, vR a0), (1, vI x1), (2, vI x2), (3, vI x3)] [] G r := by
  refine wk_iload_n 3 dJ15_vectorizedHashCode_64 rfl rfl ?_
  refine wk_aload_n 0 dJ15_vectorizedHashCode_65 rfl rfl ?_
  refine wk_e e1 ?_
  refine wk_castA 30 (by decide) hk2 q928 rfl dJ15_vectorizedHashCode_66 ?_
  refine wk_iload_n 1 dJ15_vectorizedHashCode_69 rfl rfl ?_
  refine wk_iload_n 2 dJ15_vectorizedHashCode_70 rfl rfl ?_
  exact wk_callS hC rfl q932 q933 q131 q934 mdJ15_utf16hashCode (Nat.le_of_ble_eq_true rfl) rfl rfl (Nat.le_of_ble_eq_true rfl) hdp hb dJ15_vectorizedHashCode_71 (fun v G' h => (wk_sub [] trivial (kr v G' h))) kx
theorem blJ15_vectorizedHashCode_74 {w : WD} {j : JB} {r : Nat} {G : GH} {s0 : Int32}
    (k : wk_V w mJ15_vectorizedHashCode j 157 [] [vI s0] G r)
    : wk_V w mJ15_vectorizedHashCode j 74 [] [vI s0] G r := by
  exact wk_goto 157 dJ15_vectorizedHashCode_74 (by decide) k
-- blJ15_vectorizedHashCode_77: left out (checkcast [C)
theorem blJ15_vectorizedHashCode_87 {w : WD} {j : JB} {r : Nat} {G : GH} {s0 : Int32}
    (k : wk_V w mJ15_vectorizedHashCode j 157 [] [vI s0] G r)
    : wk_V w mJ15_vectorizedHashCode j 87 [] [vI s0] G r := by
  exact wk_goto 157 dJ15_vectorizedHashCode_87 (by decide) k
theorem blJ15_vectorizedHashCode_90 {w : WD} {j : JB} {r : Nat} {G : GH} {a0 : Option Nat} {x1 : Int32} {x2 : Int32} {x3 : Int32} {o1 : Nat} {d' b' : Nat} {P : Option WV → GH → Prop} {PX : String → Nat → GH → Prop}
    (e1 : a0 = some o1)
    (hk2 : hp_kd G o1 = 30)
    (hC : wk_C w mJ15_hashCode_2 d' b' [vI x3, vR (some o1), vI x1, vI x2] G P PX)
    (hdp : d' + 1 ≤ j.1)
    (hb : b' ≤ r)
    (kr : ∀ v G', P v G' → wk_V w mJ15_vectorizedHashCode j 100 [] (v.toList ++ []) G' (r - b'))
    (kx : ∀ E q G', PX E q G' → wk_T w mJ15_vectorizedHashCode j 97 [(0, vR a0), (1, vI x1), (2, vI x2), (3, vI x3)] G' (r - b') E q)
    : wk_V w mJ15_vectorizedHashCode j 90 [(0, vR a0), (1, vI x1), (2, vI x2), (3, vI x3)] [] G r := by
  refine wk_iload_n 3 dJ15_vectorizedHashCode_90 rfl rfl ?_
  refine wk_aload_n 0 dJ15_vectorizedHashCode_91 rfl rfl ?_
  refine wk_e e1 ?_
  refine wk_castA 30 (by decide) hk2 q928 rfl dJ15_vectorizedHashCode_92 ?_
  refine wk_iload_n 1 dJ15_vectorizedHashCode_95 rfl rfl ?_
  refine wk_iload_n 2 dJ15_vectorizedHashCode_96 rfl rfl ?_
  exact wk_callS hC rfl q952 q953 q131 q954 mdJ15_hashCode_2 (Nat.le_of_ble_eq_true rfl) rfl rfl (Nat.le_of_ble_eq_true rfl) hdp hb dJ15_vectorizedHashCode_97 (fun v G' h => (wk_sub [] trivial (kr v G' h))) kx
theorem blJ15_vectorizedHashCode_100 {w : WD} {j : JB} {r : Nat} {G : GH} {s0 : Int32}
    (k : wk_V w mJ15_vectorizedHashCode j 157 [] [vI s0] G r)
    : wk_V w mJ15_vectorizedHashCode j 100 [] [vI s0] G r := by
  exact wk_goto 157 dJ15_vectorizedHashCode_100 (by decide) k
-- blJ15_vectorizedHashCode_103: left out (checkcast [S)
theorem blJ15_vectorizedHashCode_113 {w : WD} {j : JB} {r : Nat} {G : GH} {s0 : Int32}
    (k : wk_V w mJ15_vectorizedHashCode j 157 [] [vI s0] G r)
    : wk_V w mJ15_vectorizedHashCode j 113 [] [vI s0] G r := by
  exact wk_goto 157 dJ15_vectorizedHashCode_113 (by decide) k
-- blJ15_vectorizedHashCode_116: left out (checkcast [I)
theorem blJ15_vectorizedHashCode_126 {w : WD} {j : JB} {r : Nat} {G : GH} {s0 : Int32}
    (k : wk_V w mJ15_vectorizedHashCode j 157 [] [vI s0] G r)
    : wk_V w mJ15_vectorizedHashCode j 126 [] [vI s0] G r := by
  exact wk_goto 157 dJ15_vectorizedHashCode_126 (by decide) k
-- blJ15_vectorizedHashCode_129: left out (new java/lang/IllegalArgumentException)
theorem blJ15_vectorizedHashCode_132 {w : WD} {j : JB} {r : Nat} {G : GH} {x4 : Int32} {sa0 : Option Nat}
    (hr : 1 ≤ r)
    (k : ∀ q, hp_kd G q = 0 → hp_A w q → wk_V w mJ15_vectorizedHashCode j 136 [(4, vI x4)] [vR (some q), vR sa0, vR sa0] (hp_nw G q 27 0) (r - 1))
    : wk_V w mJ15_vectorizedHashCode j 132 [(4, vI x4)] [vR sa0] G r := by
  refine wk_dup dJ15_vectorizedHashCode_132 rfl ?_
  refine wk_new 27 4 ⟨by decide, by decide, q964, q543, q128, rfl⟩ hr dJ15_vectorizedHashCode_133 (fun q h1 h2 => ?_)
  exact (k q h1 h2)
theorem blJ15_vectorizedHashCode_136 {w : WD} {j : JB} {r : Nat} {G : GH} {x4 : Int32} {sa0 : Option Nat} {sa1 : Option Nat} {sa2 : Option Nat} {o1 : Nat} {d' b' : Nat} {P : Option WV → GH → Prop} {PX : String → Nat → GH → Prop}
    (e1 : sa2 = some o1)
    (hC : wk_C w mJ12_init d' b' [vR (some o1)] G P PX)
    (hdp : d' + 1 ≤ j.1)
    (hb : b' ≤ r)
    (kr : ∀ v G', P v G' → wk_V w mJ15_vectorizedHashCode j 140 [(4, vI x4)] (v.toList ++ [vR sa2, vR sa1, vR sa0]) G' (r - b'))
    (kx : ∀ E q G', PX E q G' → wk_T w mJ15_vectorizedHashCode j 137 [(4, vI x4)] G' (r - b') E q)
    : wk_V w mJ15_vectorizedHashCode j 136 [(4, vI x4)] [vR sa2, vR sa1, vR sa0] G r := by
  refine wk_dup dJ15_vectorizedHashCode_136 rfl ?_
  refine wk_eAt 0 e1 rfl ?_
  exact wk_callI hC rfl rfl rfl q965 q545 q128 q546 mdJ12_init (Nat.le_of_ble_eq_true rfl) rfl rfl (Nat.le_of_ble_eq_true rfl) hdp hb dJ15_vectorizedHashCode_137 kr kx
theorem blJ15_vectorizedHashCode_140 {w : WD} {j : JB} {r : Nat} {G : GH} {x4 : Int32} {sa0 : Option Nat} {sa1 : Option Nat} {sa2 : Option Nat} {o1 : Nat} {d' b' : Nat} {P : Option WV → GH → Prop} {PX : String → Nat → GH → Prop}
    (e1 : sa2 = some o1)
    (hkr : hp_kd G o1 = 27)
    (hC : wk_C w mJ12_append_3 d' b' [vR (some o1), vR (some (hp_sa w "unrecognized basic type: "))] G P PX)
    (hdp : d' + 1 ≤ j.1)
    (hb : b' ≤ r)
    (kr : ∀ v G', P v G' → wk_V w mJ15_vectorizedHashCode j 145 [(4, vI x4)] (v.toList ++ [vR sa1, vR sa0]) G' (r - b'))
    (kx : ∀ E q G', PX E q G' → wk_T w mJ15_vectorizedHashCode j 142 [(4, vI x4)] G' (r - b') E q)
    : wk_V w mJ15_vectorizedHashCode j 140 [(4, vI x4)] [vR sa2, vR sa1, vR sa0] G r := by
  refine wk_ldcS "unrecognized basic type: " (by decide +kernel) dJ15_vectorizedHashCode_140 ?_
  refine wk_eAt 1 e1 rfl ?_
  exact wk_callV hC rfl q967 q758 q759 q128 q760 mdJ12_append_3 (Nat.le_of_ble_eq_true rfl) ⟨by show hp_kd G o1 ≠ 0; rw [hkr]; decide, by show hp_kd G o1 < 28; rw [hkr]; decide, by show hp_C (hp_kd G o1) = _; rw [hkr]; rfl⟩ rfl rfl (Nat.le_of_ble_eq_true rfl) hdp hb dJ15_vectorizedHashCode_142 kr kx
theorem blJ15_vectorizedHashCode_145 {w : WD} {j : JB} {r : Nat} {G : GH} {x4 : Int32} {sa0 : Option Nat} {sa1 : Option Nat} {sa2 : Option Nat} {o1 : Nat} {d' b' : Nat} {P : Option WV → GH → Prop} {PX : String → Nat → GH → Prop}
    (e1 : sa2 = some o1)
    (hkr : hp_kd G o1 = 27)
    (hC : wk_C w mJ12_append_2 d' b' [vR (some o1), vI x4] G P PX)
    (hdp : d' + 1 ≤ j.1)
    (hb : b' ≤ r)
    (kr : ∀ v G', P v G' → wk_V w mJ15_vectorizedHashCode j 150 [] (v.toList ++ [vR sa1, vR sa0]) G' (r - b'))
    (kx : ∀ E q G', PX E q G' → wk_T w mJ15_vectorizedHashCode j 147 [(4, vI x4)] G' (r - b') E q)
    : wk_V w mJ15_vectorizedHashCode j 145 [(4, vI x4)] [vR sa2, vR sa1, vR sa0] G r := by
  refine wk_iload dJ15_vectorizedHashCode_145 rfl ?_
  refine wk_eAt 1 e1 rfl ?_
  exact wk_callV hC rfl q968 q723 q724 q128 q725 mdJ12_append_2 (Nat.le_of_ble_eq_true rfl) ⟨by show hp_kd G o1 ≠ 0; rw [hkr]; decide, by show hp_kd G o1 < 28; rw [hkr]; decide, by show hp_C (hp_kd G o1) = _; rw [hkr]; rfl⟩ rfl rfl (Nat.le_of_ble_eq_true rfl) hdp hb dJ15_vectorizedHashCode_147 (fun v G' h => (wk_sub [] trivial (kr v G' h))) kx
theorem blJ15_vectorizedHashCode_150 {w : WD} {j : JB} {r : Nat} {G : GH} {sa0 : Option Nat} {sa1 : Option Nat} {sa2 : Option Nat} {o1 : Nat} {d' b' : Nat} {P : Option WV → GH → Prop} {PX : String → Nat → GH → Prop}
    (e1 : sa2 = some o1)
    (hkr : hp_kd G o1 = 27)
    (hC : wk_C w mJ12_toString d' b' [vR (some o1)] G P PX)
    (hdp : d' + 1 ≤ j.1)
    (hb : b' ≤ r)
    (kr : ∀ v G', P v G' → wk_V w mJ15_vectorizedHashCode j 153 [] (v.toList ++ [vR sa1, vR sa0]) G' (r - b'))
    (kx : ∀ E q G', PX E q G' → wk_T w mJ15_vectorizedHashCode j 150 [] G' (r - b') E q)
    : wk_V w mJ15_vectorizedHashCode j 150 [] [vR sa2, vR sa1, vR sa0] G r := by
  refine wk_eAt 0 e1 rfl ?_
  exact wk_callV hC rfl q969 q676 q677 q128 q678 mdJ12_toString (Nat.le_of_ble_eq_true rfl) ⟨by show hp_kd G o1 ≠ 0; rw [hkr]; decide, by show hp_kd G o1 < 28; rw [hkr]; decide, by show hp_C (hp_kd G o1) = _; rw [hkr]; rfl⟩ rfl rfl (Nat.le_of_ble_eq_true rfl) hdp hb dJ15_vectorizedHashCode_150 kr kx
theorem blJ15_vectorizedHashCode_153 {w : WD} {j : JB} {r : Nat} {G : GH} {sa0 : Option Nat} {sa1 : Option Nat} {sa2 : Option Nat} {o1 : Nat} {d' b' : Nat} {P : Option WV → GH → Prop} {PX : String → Nat → GH → Prop}
    (e1 : sa1 = some o1)
    (hC : wk_C w mJ9_init d' b' [vR (some o1), vR sa2] G P PX)
    (hdp : d' + 1 ≤ j.1)
    (hb : b' ≤ r)
    (kr : ∀ v G', P v G' → wk_V w mJ15_vectorizedHashCode j 156 [] (v.toList ++ [vR sa0]) G' (r - b'))
    (kx : ∀ E q G', PX E q G' → wk_T w mJ15_vectorizedHashCode j 153 [] G' (r - b') E q)
    : wk_V w mJ15_vectorizedHashCode j 153 [] [vR sa2, vR sa1, vR sa0] G r := by
  refine wk_eAt 1 e1 rfl ?_
  exact wk_callI hC rfl rfl rfl q970 q797 q124 q798 mdJ9_init (Nat.le_of_ble_eq_true rfl) rfl rfl (Nat.le_of_ble_eq_true rfl) hdp hb dJ15_vectorizedHashCode_153 kr kx
theorem blJ15_vectorizedHashCode_156 {w : WD} {j : JB} {r : Nat} {G : GH} {sa0 : Option Nat} {o1 : Nat}
    (e1 : sa0 = some o1)
    (h0 : hp_kd G o1 ≠ 0)
    (h28 : hp_kd G o1 < 28)
    (k : wk_T w mJ15_vectorizedHashCode j 156 [] G r (hp_C (hp_kd G o1)) o1)
    : wk_V w mJ15_vectorizedHashCode j 156 [] [vR sa0] G r := by
  refine wk_e e1 ?_
  exact wk_athrow h0 h28 dJ15_vectorizedHashCode_156 k
theorem blJ15_vectorizedHashCode_157 {w : WD} {j : JB} {r : Nat} {G : GH} {s0 : Int32}
    (hP : j.2.2.1 (some (vI s0)) G)
    : wk_V w mJ15_vectorizedHashCode j 157 [] [vI s0] G r := by
  exact wk_ireturn rfl rfl dJ15_vectorizedHashCode_157 hP
/-! jdk/internal/util/ArraysSupport.hashCode(I[CII)I -/
theorem blJ15_hashCode_0 {w : WD} {j : JB} {r : Nat} {G : GH} {x0 : Int32} {a1 : Option Nat} {x2 : Int32} {x3 : Int32}
    (k : wk_V w mJ15_hashCode j 8 [(0, vI x0), (1, vR a1), (4, vI (x2 + x3)), (5, vI x2)] [] G r)
    : wk_V w mJ15_hashCode j 0 [(0, vI x0), (1, vR a1), (2, vI x2), (3, vI x3)] [] G r := by
  refine wk_iload_n 2 dJ15_hashCode_0 rfl rfl ?_
  refine wk_iload_n 3 dJ15_hashCode_1 rfl rfl ?_
  refine wk_iadd dJ15_hashCode_2 ?_
  refine wk_istore dJ15_hashCode_3 (Nat.le_of_ble_eq_true rfl) ?_
  refine wk_iload_n 2 dJ15_hashCode_5 rfl rfl ?_
  refine wk_istore dJ15_hashCode_6 (Nat.le_of_ble_eq_true rfl) ?_
  exact (wk_sub [(0, vI x0), (1, vR a1), (4, vI (x2 + x3)), (5, vI x2)] ⟨rfl, rfl, rfl, rfl, trivial⟩ k)
theorem blJ15_hashCode_8 {w : WD} {j : JB} {r : Nat} {G : GH} {x0 : Int32} {a1 : Option Nat} {x4 : Int32} {x5 : Int32}
    (kt : x4 ≤ x5 → wk_V w mJ15_hashCode j 31 [(0, vI x0)] [] G r)
    (kf : ¬ (x4 ≤ x5) → wk_V w mJ15_hashCode j 15 [(0, vI x0), (1, vR a1), (4, vI x4), (5, vI x5)] [] G r)
    : wk_V w mJ15_hashCode j 8 [(0, vI x0), (1, vR a1), (4, vI x4), (5, vI x5)] [] G r := by
  refine wk_iload dJ15_hashCode_8 rfl ?_
  refine wk_iload dJ15_hashCode_10 rfl ?_
  exact wk_icmp_ge 31 dJ15_hashCode_12 (by decide) (fun h => (wk_sub [(0, vI x0)] ⟨rfl, trivial⟩ (kt h))) (fun h => (kf h))
-- blJ15_hashCode_15: left out (caload)
theorem blJ15_hashCode_31 {w : WD} {j : JB} {r : Nat} {G : GH} {x0 : Int32}
    (hP : j.2.2.1 (some (vI x0)) G)
    : wk_V w mJ15_hashCode j 31 [(0, vI x0)] [] G r := by
  refine wk_iload_n 0 dJ15_hashCode_31 rfl rfl ?_
  exact wk_ireturn rfl rfl dJ15_hashCode_32 hP
/-! jdk/internal/util/ArraysSupport.newLength(III)I -/
theorem blJ15_newLength_0 {w : WD} {j : JB} {r : Nat} {G : GH} {x0 : Int32} {x1 : Int32} {x2 : Int32}
    (hdp : 1 ≤ j.1)
    (k : wk_V w mJ15_newLength j 6 [(0, vI x0), (1, vI x1)] [vI (if x1 < x2 then x2 else x1), vI x0] G r)
    : wk_V w mJ15_newLength j 0 [(0, vI x0), (1, vI x1), (2, vI x2)] [] G r := by
  refine wk_iload_n 0 dJ15_newLength_0 rfl rfl ?_
  refine wk_iload_n 1 dJ15_newLength_1 rfl rfl ?_
  refine wk_iload_n 2 dJ15_newLength_2 rfl rfl ?_
  refine wk_mmax q594 q595 q132 q596 (Nat.le_of_ble_eq_true rfl) hdp dJ15_newLength_3 ?_
  exact (wk_sub [(0, vI x0), (1, vI x1)] ⟨rfl, rfl, trivial⟩ k)
theorem blJ15_newLength_6 {w : WD} {j : JB} {r : Nat} {G : GH} {x0 : Int32} {x1 : Int32} {s0 : Int32} {s1 : Int32}
    (kt : (s0 + s1) ≤ (0 : Int32) → wk_V w mJ15_newLength j 21 [(0, vI x0), (1, vI x1)] [] G r)
    (kf : ¬ ((s0 + s1) ≤ (0 : Int32)) → wk_V w mJ15_newLength j 13 [(0, vI x0), (1, vI x1), (3, vI (s0 + s1))] [] G r)
    : wk_V w mJ15_newLength j 6 [(0, vI x0), (1, vI x1)] [vI s1, vI s0] G r := by
  refine wk_iadd dJ15_newLength_6 ?_
  refine wk_istore_n 3 dJ15_newLength_7 rfl (Nat.le_of_ble_eq_true rfl) ?_
  refine wk_iconst (0 : Int32) dJ15_newLength_8 (by decide) ?_
  refine wk_iload_n 3 dJ15_newLength_9 rfl rfl ?_
  exact wk_icmp_ge 21 dJ15_newLength_10 (by decide) (fun h => (wk_sub [(0, vI x0), (1, vI x1)] ⟨rfl, rfl, trivial⟩ (kt h))) (fun h => (kf h))
theorem blJ15_newLength_13 {w : WD} {j : JB} {r : Nat} {G : GH} {x0 : Int32} {x1 : Int32} {x3 : Int32}
    (kt : (2147483639 : Int32) < x3 → wk_V w mJ15_newLength j 21 [(0, vI x0), (1, vI x1)] [] G r)
    (kf : ¬ ((2147483639 : Int32) < x3) → wk_V w mJ15_newLength j 19 [(3, vI x3)] [] G r)
    : wk_V w mJ15_newLength j 13 [(0, vI x0), (1, vI x1), (3, vI x3)] [] G r := by
  refine wk_iload_n 3 dJ15_newLength_13 rfl rfl ?_
  refine wk_ldc (2147483639 : Int32) q597 dJ15_newLength_14 ?_
  exact wk_icmp_gt 21 dJ15_newLength_16 (by decide) (fun h => (wk_sub [(0, vI x0), (1, vI x1)] ⟨rfl, rfl, trivial⟩ (kt h))) (fun h => (wk_sub [(3, vI x3)] ⟨rfl, trivial⟩ (kf h)))
theorem blJ15_newLength_19 {w : WD} {j : JB} {r : Nat} {G : GH} {x3 : Int32}
    (hP : j.2.2.1 (some (vI x3)) G)
    : wk_V w mJ15_newLength j 19 [(3, vI x3)] [] G r := by
  refine wk_iload_n 3 dJ15_newLength_19 rfl rfl ?_
  exact wk_ireturn rfl rfl dJ15_newLength_20 hP
theorem blJ15_newLength_21 {w : WD} {j : JB} {r : Nat} {G : GH} {x0 : Int32} {x1 : Int32} {d' b' : Nat} {P : Option WV → GH → Prop} {PX : String → Nat → GH → Prop}
    (hC : wk_C w mJ15_hugeLength d' b' [vI x0, vI x1] G P PX)
    (hdp : d' + 1 ≤ j.1)
    (hb : b' ≤ r)
    (kr : ∀ v G', P v G' → wk_V w mJ15_newLength j 26 [] (v.toList ++ []) G' (r - b'))
    (kx : ∀ E q G', PX E q G' → wk_T w mJ15_newLength j 23 [(0, vI x0), (1, vI x1)] G' (r - b') E q)
    : wk_V w mJ15_newLength j 21 [(0, vI x0), (1, vI x1)] [] G r := by
  refine wk_iload_n 0 dJ15_newLength_21 rfl rfl ?_
  refine wk_iload_n 1 dJ15_newLength_22 rfl rfl ?_
  exact wk_callS hC rfl q598 q599 q131 q600 mdJ15_hugeLength (Nat.le_of_ble_eq_true rfl) rfl rfl (Nat.le_of_ble_eq_true rfl) hdp hb dJ15_newLength_23 (fun v G' h => (wk_sub [] trivial (kr v G' h))) kx
theorem blJ15_newLength_26 {w : WD} {j : JB} {r : Nat} {G : GH} {s0 : Int32}
    (hP : j.2.2.1 (some (vI s0)) G)
    : wk_V w mJ15_newLength j 26 [] [vI s0] G r := by
  exact wk_ireturn rfl rfl dJ15_newLength_26 hP
/-! java/lang/Math.max(II)I -/
theorem blJ16_max_0 {w : WD} {j : JB} {r : Nat} {G : GH} {x0 : Int32} {x1 : Int32}
    (kt : x0 < x1 → wk_V w mJ16_max j 9 [(1, vI x1)] [] G r)
    (kf : ¬ (x0 < x1) → wk_V w mJ16_max j 5 [(0, vI x0)] [] G r)
    : wk_V w mJ16_max j 0 [(0, vI x0), (1, vI x1)] [] G r := by
  refine wk_iload_n 0 dJ16_max_0 rfl rfl ?_
  refine wk_iload_n 1 dJ16_max_1 rfl rfl ?_
  exact wk_icmp_lt 9 dJ16_max_2 (by decide) (fun h => (wk_sub [(1, vI x1)] ⟨rfl, trivial⟩ (kt h))) (fun h => (wk_sub [(0, vI x0)] ⟨rfl, trivial⟩ (kf h)))
theorem blJ16_max_5 {w : WD} {j : JB} {r : Nat} {G : GH} {x0 : Int32}
    (k : wk_V w mJ16_max j 10 [] [vI x0] G r)
    : wk_V w mJ16_max j 5 [(0, vI x0)] [] G r := by
  refine wk_iload_n 0 dJ16_max_5 rfl rfl ?_
  exact wk_goto 10 dJ16_max_6 (by decide) (wk_sub [] trivial k)
theorem blJ16_max_9 {w : WD} {j : JB} {r : Nat} {G : GH} {x1 : Int32}
    (k : wk_V w mJ16_max j 10 [] [vI x1] G r)
    : wk_V w mJ16_max j 9 [(1, vI x1)] [] G r := by
  refine wk_iload_n 1 dJ16_max_9 rfl rfl ?_
  exact (wk_sub [] trivial k)
theorem blJ16_max_10 {w : WD} {j : JB} {r : Nat} {G : GH} {s0 : Int32}
    (hP : j.2.2.1 (some (vI s0)) G)
    : wk_V w mJ16_max j 10 [] [vI s0] G r := by
  exact wk_ireturn rfl rfl dJ16_max_10 hP
/-! java/lang/Math.min(II)I -/
theorem blJ16_min_0 {w : WD} {j : JB} {r : Nat} {G : GH} {x0 : Int32} {x1 : Int32}
    (kt : x1 < x0 → wk_V w mJ16_min j 9 [(1, vI x1)] [] G r)
    (kf : ¬ (x1 < x0) → wk_V w mJ16_min j 5 [(0, vI x0)] [] G r)
    : wk_V w mJ16_min j 0 [(0, vI x0), (1, vI x1)] [] G r := by
  refine wk_iload_n 0 dJ16_min_0 rfl rfl ?_
  refine wk_iload_n 1 dJ16_min_1 rfl rfl ?_
  exact wk_icmp_gt 9 dJ16_min_2 (by decide) (fun h => (wk_sub [(1, vI x1)] ⟨rfl, trivial⟩ (kt h))) (fun h => (wk_sub [(0, vI x0)] ⟨rfl, trivial⟩ (kf h)))
theorem blJ16_min_5 {w : WD} {j : JB} {r : Nat} {G : GH} {x0 : Int32}
    (k : wk_V w mJ16_min j 10 [] [vI x0] G r)
    : wk_V w mJ16_min j 5 [(0, vI x0)] [] G r := by
  refine wk_iload_n 0 dJ16_min_5 rfl rfl ?_
  exact wk_goto 10 dJ16_min_6 (by decide) (wk_sub [] trivial k)
theorem blJ16_min_9 {w : WD} {j : JB} {r : Nat} {G : GH} {x1 : Int32}
    (k : wk_V w mJ16_min j 10 [] [vI x1] G r)
    : wk_V w mJ16_min j 9 [(1, vI x1)] [] G r := by
  refine wk_iload_n 1 dJ16_min_9 rfl rfl ?_
  exact (wk_sub [] trivial k)
theorem blJ16_min_10 {w : WD} {j : JB} {r : Nat} {G : GH} {s0 : Int32}
    (hP : j.2.2.1 (some (vI s0)) G)
    : wk_V w mJ16_min j 10 [] [vI s0] G r := by
  exact wk_ireturn rfl rfl dJ16_min_10 hP
/-! java/util/Arrays.checkLength(II)V -/
theorem blJ17_checkLength_0 {w : WD} {j : JB} {r : Nat} {G : GH} {x0 : Int32} {x1 : Int32}
    (kt : x0 ≤ x1 → wk_V w mJ17_checkLength j 37 [] [] G r)
    (kf : ¬ (x0 ≤ x1) → wk_V w mJ17_checkLength j 5 [(0, vI x0), (1, vI x1)] [] G r)
    : wk_V w mJ17_checkLength j 0 [(0, vI x0), (1, vI x1)] [] G r := by
  refine wk_iload_n 1 dJ17_checkLength_0 rfl rfl ?_
  refine wk_iload_n 0 dJ17_checkLength_1 rfl rfl ?_
  exact wk_icmp_ge 37 dJ17_checkLength_2 (by decide) (fun h => (wk_sub [] trivial (kt h))) (fun h => (kf h))
-- blJ17_checkLength_5: left out (new java/lang/IllegalArgumentException)
theorem blJ17_checkLength_8 {w : WD} {j : JB} {r : Nat} {G : GH} {x0 : Int32} {x1 : Int32} {sa0 : Option Nat}
    (hr : 1 ≤ r)
    (k : ∀ q, hp_kd G q = 0 → hp_A w q → wk_V w mJ17_checkLength j 12 [(0, vI x0), (1, vI x1)] [vR (some q), vR sa0, vR sa0] (hp_nw G q 27 0) (r - 1))
    : wk_V w mJ17_checkLength j 8 [(0, vI x0), (1, vI x1)] [vR sa0] G r := by
  refine wk_dup dJ17_checkLength_8 rfl ?_
  refine wk_new 27 4 ⟨by decide, by decide, q720, q543, q128, rfl⟩ hr dJ17_checkLength_9 (fun q h1 h2 => ?_)
  exact (k q h1 h2)
theorem blJ17_checkLength_12 {w : WD} {j : JB} {r : Nat} {G : GH} {x0 : Int32} {x1 : Int32} {sa0 : Option Nat} {sa1 : Option Nat} {sa2 : Option Nat} {o1 : Nat} {d' b' : Nat} {P : Option WV → GH → Prop} {PX : String → Nat → GH → Prop}
    (e1 : sa2 = some o1)
    (hC : wk_C w mJ12_init d' b' [vR (some o1)] G P PX)
    (hdp : d' + 1 ≤ j.1)
    (hb : b' ≤ r)
    (kr : ∀ v G', P v G' → wk_V w mJ17_checkLength j 16 [(0, vI x0), (1, vI x1)] (v.toList ++ [vR sa2, vR sa1, vR sa0]) G' (r - b'))
    (kx : ∀ E q G', PX E q G' → wk_T w mJ17_checkLength j 13 [(0, vI x0), (1, vI x1)] G' (r - b') E q)
    : wk_V w mJ17_checkLength j 12 [(0, vI x0), (1, vI x1)] [vR sa2, vR sa1, vR sa0] G r := by
  refine wk_dup dJ17_checkLength_12 rfl ?_
  refine wk_eAt 0 e1 rfl ?_
  exact wk_callI hC rfl rfl rfl q721 q545 q128 q546 mdJ12_init (Nat.le_of_ble_eq_true rfl) rfl rfl (Nat.le_of_ble_eq_true rfl) hdp hb dJ17_checkLength_13 kr kx
theorem blJ17_checkLength_16 {w : WD} {j : JB} {r : Nat} {G : GH} {x0 : Int32} {x1 : Int32} {sa0 : Option Nat} {sa1 : Option Nat} {sa2 : Option Nat} {o1 : Nat} {d' b' : Nat} {P : Option WV → GH → Prop} {PX : String → Nat → GH → Prop}
    (e1 : sa2 = some o1)
    (hkr : hp_kd G o1 = 27)
    (hC : wk_C w mJ12_append_2 d' b' [vR (some o1), vI x0] G P PX)
    (hdp : d' + 1 ≤ j.1)
    (hb : b' ≤ r)
    (kr : ∀ v G', P v G' → wk_V w mJ17_checkLength j 20 [(1, vI x1)] (v.toList ++ [vR sa1, vR sa0]) G' (r - b'))
    (kx : ∀ E q G', PX E q G' → wk_T w mJ17_checkLength j 17 [(0, vI x0), (1, vI x1)] G' (r - b') E q)
    : wk_V w mJ17_checkLength j 16 [(0, vI x0), (1, vI x1)] [vR sa2, vR sa1, vR sa0] G r := by
  refine wk_iload_n 0 dJ17_checkLength_16 rfl rfl ?_
  refine wk_eAt 1 e1 rfl ?_
  exact wk_callV hC rfl q722 q723 q724 q128 q725 mdJ12_append_2 (Nat.le_of_ble_eq_true rfl) ⟨by show hp_kd G o1 ≠ 0; rw [hkr]; decide, by show hp_kd G o1 < 28; rw [hkr]; decide, by show hp_C (hp_kd G o1) = _; rw [hkr]; rfl⟩ rfl rfl (Nat.le_of_ble_eq_true rfl) hdp hb dJ17_checkLength_17 (fun v G' h => (wk_sub [(1, vI x1)] ⟨rfl, trivial⟩ (kr v G' h))) kx
theorem blJ17_checkLength_20 {w : WD} {j : JB} {r : Nat} {G : GH} {x1 : Int32} {sa0 : Option Nat} {sa1 : Option Nat} {sa2 : Option Nat} {o1 : Nat} {d' b' : Nat} {P : Option WV → GH → Prop} {PX : String → Nat → GH → Prop}
    (e1 : sa2 = some o1)
    (hkr : hp_kd G o1 = 27)
    (hC : wk_C w mJ12_append_3 d' b' [vR (some o1), vR (some (hp_sa w " > "))] G P PX)
    (hdp : d' + 1 ≤ j.1)
    (hb : b' ≤ r)
    (kr : ∀ v G', P v G' → wk_V w mJ17_checkLength j 26 [(1, vI x1)] (v.toList ++ [vR sa1, vR sa0]) G' (r - b'))
    (kx : ∀ E q G', PX E q G' → wk_T w mJ17_checkLength j 23 [(1, vI x1)] G' (r - b') E q)
    : wk_V w mJ17_checkLength j 20 [(1, vI x1)] [vR sa2, vR sa1, vR sa0] G r := by
  refine wk_ldcwS " > " (by decide +kernel) dJ17_checkLength_20 ?_
  refine wk_eAt 1 e1 rfl ?_
  exact wk_callV hC rfl q757 q758 q759 q128 q760 mdJ12_append_3 (Nat.le_of_ble_eq_true rfl) ⟨by show hp_kd G o1 ≠ 0; rw [hkr]; decide, by show hp_kd G o1 < 28; rw [hkr]; decide, by show hp_C (hp_kd G o1) = _; rw [hkr]; rfl⟩ rfl rfl (Nat.le_of_ble_eq_true rfl) hdp hb dJ17_checkLength_23 kr kx
theorem blJ17_checkLength_26 {w : WD} {j : JB} {r : Nat} {G : GH} {x1 : Int32} {sa0 : Option Nat} {sa1 : Option Nat} {sa2 : Option Nat} {o1 : Nat} {d' b' : Nat} {P : Option WV → GH → Prop} {PX : String → Nat → GH → Prop}
    (e1 : sa2 = some o1)
    (hkr : hp_kd G o1 = 27)
    (hC : wk_C w mJ12_append_2 d' b' [vR (some o1), vI x1] G P PX)
    (hdp : d' + 1 ≤ j.1)
    (hb : b' ≤ r)
    (kr : ∀ v G', P v G' → wk_V w mJ17_checkLength j 30 [] (v.toList ++ [vR sa1, vR sa0]) G' (r - b'))
    (kx : ∀ E q G', PX E q G' → wk_T w mJ17_checkLength j 27 [(1, vI x1)] G' (r - b') E q)
    : wk_V w mJ17_checkLength j 26 [(1, vI x1)] [vR sa2, vR sa1, vR sa0] G r := by
  refine wk_iload_n 1 dJ17_checkLength_26 rfl rfl ?_
  refine wk_eAt 1 e1 rfl ?_
  exact wk_callV hC rfl q722 q723 q724 q128 q725 mdJ12_append_2 (Nat.le_of_ble_eq_true rfl) ⟨by show hp_kd G o1 ≠ 0; rw [hkr]; decide, by show hp_kd G o1 < 28; rw [hkr]; decide, by show hp_C (hp_kd G o1) = _; rw [hkr]; rfl⟩ rfl rfl (Nat.le_of_ble_eq_true rfl) hdp hb dJ17_checkLength_27 (fun v G' h => (wk_sub [] trivial (kr v G' h))) kx
theorem blJ17_checkLength_30 {w : WD} {j : JB} {r : Nat} {G : GH} {sa0 : Option Nat} {sa1 : Option Nat} {sa2 : Option Nat} {o1 : Nat} {d' b' : Nat} {P : Option WV → GH → Prop} {PX : String → Nat → GH → Prop}
    (e1 : sa2 = some o1)
    (hkr : hp_kd G o1 = 27)
    (hC : wk_C w mJ12_toString d' b' [vR (some o1)] G P PX)
    (hdp : d' + 1 ≤ j.1)
    (hb : b' ≤ r)
    (kr : ∀ v G', P v G' → wk_V w mJ17_checkLength j 33 [] (v.toList ++ [vR sa1, vR sa0]) G' (r - b'))
    (kx : ∀ E q G', PX E q G' → wk_T w mJ17_checkLength j 30 [] G' (r - b') E q)
    : wk_V w mJ17_checkLength j 30 [] [vR sa2, vR sa1, vR sa0] G r := by
  refine wk_eAt 0 e1 rfl ?_
  exact wk_callV hC rfl q795 q676 q677 q128 q678 mdJ12_toString (Nat.le_of_ble_eq_true rfl) ⟨by show hp_kd G o1 ≠ 0; rw [hkr]; decide, by show hp_kd G o1 < 28; rw [hkr]; decide, by show hp_C (hp_kd G o1) = _; rw [hkr]; rfl⟩ rfl rfl (Nat.le_of_ble_eq_true rfl) hdp hb dJ17_checkLength_30 kr kx
theorem blJ17_checkLength_33 {w : WD} {j : JB} {r : Nat} {G : GH} {sa0 : Option Nat} {sa1 : Option Nat} {sa2 : Option Nat} {o1 : Nat} {d' b' : Nat} {P : Option WV → GH → Prop} {PX : String → Nat → GH → Prop}
    (e1 : sa1 = some o1)
    (hC : wk_C w mJ9_init d' b' [vR (some o1), vR sa2] G P PX)
    (hdp : d' + 1 ≤ j.1)
    (hb : b' ≤ r)
    (kr : ∀ v G', P v G' → wk_V w mJ17_checkLength j 36 [] (v.toList ++ [vR sa0]) G' (r - b'))
    (kx : ∀ E q G', PX E q G' → wk_T w mJ17_checkLength j 33 [] G' (r - b') E q)
    : wk_V w mJ17_checkLength j 33 [] [vR sa2, vR sa1, vR sa0] G r := by
  refine wk_eAt 1 e1 rfl ?_
  exact wk_callI hC rfl rfl rfl q796 q797 q124 q798 mdJ9_init (Nat.le_of_ble_eq_true rfl) rfl rfl (Nat.le_of_ble_eq_true rfl) hdp hb dJ17_checkLength_33 kr kx
theorem blJ17_checkLength_36 {w : WD} {j : JB} {r : Nat} {G : GH} {sa0 : Option Nat} {o1 : Nat}
    (e1 : sa0 = some o1)
    (h0 : hp_kd G o1 ≠ 0)
    (h28 : hp_kd G o1 < 28)
    (k : wk_T w mJ17_checkLength j 36 [] G r (hp_C (hp_kd G o1)) o1)
    : wk_V w mJ17_checkLength j 36 [] [vR sa0] G r := by
  refine wk_e e1 ?_
  exact wk_athrow h0 h28 dJ17_checkLength_36 k
theorem blJ17_checkLength_37 {w : WD} {j : JB} {r : Nat} {G : GH}
    (hP : j.2.2.1 none G)
    : wk_V w mJ17_checkLength j 37 [] [] G r := by
  exact wk_return rfl dJ17_checkLength_37 hP
/-! java/util/Arrays.copyOf([BI)[B -/
theorem blJ17_copyOf_0 {w : WD} {j : JB} {r : Nat} {G : GH} {a0 : Option Nat} {x1 : Int32} {o1 : Nat}
    (e1 : a0 = some o1)
    (hk2 : 28 ≤ hp_kd G o1)
    (kt : ¬ (x1 = (nI (hp_ln G o1))) → wk_V w mJ17_copyOf j 14 [(0, vR a0), (1, vI x1)] [] G r)
    (kf : x1 = (nI (hp_ln G o1)) → wk_V w mJ17_copyOf j 6 [(0, vR a0)] [] G r)
    : wk_V w mJ17_copyOf j 0 [(0, vR a0), (1, vI x1)] [] G r := by
  refine wk_iload_n 1 dJ17_copyOf_0 rfl rfl ?_
  refine wk_aload_n 0 dJ17_copyOf_1 rfl rfl ?_
  refine wk_e e1 ?_
  refine wk_alen hk2 dJ17_copyOf_2 ?_
  exact wk_icmp_ne 14 dJ17_copyOf_3 (by decide) (fun h => (kt h)) (fun h => (wk_sub [(0, vR a0)] ⟨rfl, trivial⟩ (kf h)))
theorem blJ17_copyOf_6 {w : WD} {j : JB} {r : Nat} {G : GH} {a0 : Option Nat} {o1 : Nat}
    (e1 : a0 = some o1)
    (hdp : 1 ≤ j.1)
    (hk9 : hp_kd G o1 = 30)
    (hf : ∀ i, i < hp_ln G o1 → fits .byte (.int (hp_i G o1 i)) = true)
    (hr : 1 + hp_ln G o1 / 12 ≤ r)
    (k : ∀ q, hp_kd G q = 0 → hp_A w q → wk_V w mJ17_copyOf j 10 [] [vR (some q)] (hp_setI (hp_nw G q 30 (hp_ln G o1)) q (hp_i G o1)) (r - (1 + hp_ln G o1 / 12)))
    : wk_V w mJ17_copyOf j 6 [(0, vR a0)] [] G r := by
  refine wk_aload_n 0 dJ17_copyOf_6 rfl rfl ?_
  refine wk_e e1 ?_
  refine wk_cloneB hk9 q605 q606 q607 q608 q609 (by decide +kernel) hf (Nat.le_of_ble_eq_true rfl) hdp hr dJ17_copyOf_7 (fun q h1 h2 => ?_)
  exact (wk_sub [] trivial (k q h1 h2))
theorem blJ17_copyOf_10 {w : WD} {j : JB} {r : Nat} {G : GH} {sa0 : Option Nat} {o1 : Nat}
    (e1 : sa0 = some o1)
    (hk2 : hp_kd G o1 = 30)
    (hP : j.2.2.1 (some (vR (some o1))) G)
    : wk_V w mJ17_copyOf j 10 [] [vR sa0] G r := by
  refine wk_e e1 ?_
  refine wk_castA 30 (by decide) hk2 q611 rfl dJ17_copyOf_10 ?_
  exact wk_areturn rfl (Or.inr ⟨_, rfl⟩) dJ17_copyOf_13 hP
theorem blJ17_copyOf_14 {w : WD} {j : JB} {r : Nat} {G : GH} {a0 : Option Nat} {x1 : Int32}
    (hn : ¬ x1 < 0)
    (hb : x1.toNatClampNeg ≤ 67108864)
    (hr : 1 + x1.toNatClampNeg / 12 ≤ r)
    (k : ∀ q, hp_kd G q = 0 → hp_A w q → wk_V w mJ17_copyOf j 17 [(0, vR a0), (1, vI x1)] [vR (some q)] (hp_nw G q 30 x1.toNatClampNeg) (r - (1 + x1.toNatClampNeg / 12)))
    : wk_V w mJ17_copyOf j 14 [(0, vR a0), (1, vI x1)] [] G r := by
  refine wk_iload_n 1 dJ17_copyOf_14 rfl rfl ?_
  refine wk_newa 30 rfl ⟨by decide, by decide⟩ q248 hn hb hr dJ17_copyOf_15 (fun q h1 h2 => ?_)
  exact (k q h1 h2)
theorem blJ17_copyOf_17 {w : WD} {j : JB} {r : Nat} {G : GH} {a0 : Option Nat} {x1 : Int32} {sa0 : Option Nat} {o1 : Nat}
    (e1 : a0 = some o1)
    (hk2 : 28 ≤ hp_kd G o1)
    (hdp : 1 ≤ j.1)
    (k : wk_V w mJ17_copyOf j 28 [(2, vR sa0)] [vI (if x1 < (nI (hp_ln G o1)) then x1 else (nI (hp_ln G o1))), vI (0 : Int32), vR sa0, vI (0 : Int32), vR a0] G r)
    : wk_V w mJ17_copyOf j 17 [(0, vR a0), (1, vI x1)] [vR sa0] G r := by
  refine wk_astore_n 2 dJ17_copyOf_17 rfl (Nat.le_of_ble_eq_true rfl) ?_
  refine wk_aload_n 0 dJ17_copyOf_18 rfl rfl ?_
  refine wk_iconst (0 : Int32) dJ17_copyOf_19 (by decide) ?_
  refine wk_aload_n 2 dJ17_copyOf_20 rfl rfl ?_
  refine wk_iconst (0 : Int32) dJ17_copyOf_21 (by decide) ?_
  refine wk_aload_n 0 dJ17_copyOf_22 rfl rfl ?_
  refine wk_e e1 ?_
  refine wk_alen hk2 dJ17_copyOf_23 ?_
  refine wk_iload_n 1 dJ17_copyOf_24 rfl rfl ?_
  refine wk_mmin q612 q613 q132 q614 (Nat.le_of_ble_eq_true rfl) hdp dJ17_copyOf_25 ?_
  exact (wk_sub [(2, vR sa0)] ⟨rfl, trivial⟩ k)
theorem blJ17_copyOf_28_I {w : WD} {j : JB} {r : Nat} {G : GH} {a2 : Option Nat} {sa0 : Option Nat} {s1 : Int32} {sa2 : Option Nat} {s3 : Int32} {s4 : Int32} {o1 : Nat} {o2 : Nat}
    (e1 : sa2 = some o1)
    (e2 : sa0 = some o2)
    (hA3 : hp_A w o1)
    (hs1 : ¬ s1 < 0)
    (hs2 : ¬ s3 < 0)
    (hs3 : ¬ s4 < 0)
    (hs4 : s1.toNatClampNeg + s4.toNatClampNeg ≤ hp_ln G o2)
    (hs5 : s3.toNatClampNeg + s4.toNatClampNeg ≤ hp_ln G o1)
    (hdp : 1 ≤ j.1)
    (hk9 : 28 ≤ hp_kd G o1 ∧ hp_kd G o1 < 31)
    (hk8 : hp_kd G o2 = hp_kd G o1)
    (hf : ∀ i, i < s4.toNatClampNeg → fits (hp_at (hp_kd G o1)) (.int (hp_i G o2 (s1.toNatClampNeg + i))) = true)
    (k : wk_V w mJ17_copyOf j 31 [(2, vR a2)] [] (hp_setI G o1 (va_cpy (hp_i G o2) (hp_i G o1) s1.toNatClampNeg s3.toNatClampNeg s4.toNatClampNeg)) r)
    : wk_V w mJ17_copyOf j 28 [(2, vR a2)] [vI s4, vI s3, vR sa2, vI s1, vR sa0] G r := by
  refine wk_eAt 2 e1 rfl ?_
  refine wk_eAt 4 e2 rfl ?_
  exact wk_acopyI ⟨q615, q617, q616, q134⟩ hA3 hk9 hk8 hs1 hs2 hs3 hs4 hs5 hf (Nat.le_of_ble_eq_true rfl) hdp dJ17_copyOf_28 k
theorem blJ17_copyOf_28_R {w : WD} {j : JB} {r : Nat} {G : GH} {a2 : Option Nat} {sa0 : Option Nat} {s1 : Int32} {sa2 : Option Nat} {s3 : Int32} {s4 : Int32} {o1 : Nat} {o2 : Nat} {T4 : String}
    (e1 : sa2 = some o1)
    (e2 : sa0 = some o2)
    (hA3 : hp_A w o1)
    (hs1 : ¬ s1 < 0)
    (hs2 : ¬ s3 < 0)
    (hs3 : ¬ s4 < 0)
    (hs4 : s1.toNatClampNeg + s4.toNatClampNeg ≤ hp_ln G o2)
    (hs5 : s3.toNatClampNeg + s4.toNatClampNeg ≤ hp_ln G o1)
    (hdp : 1 ≤ j.1)
    (hk9 : 32 ≤ hp_kd G o1)
    (hk8 : 32 ≤ hp_kd G o2)
    (hT : hp_at (hp_kd G o1) = .object T4)
    (hf : ∀ i, i < s4.toNatClampNeg → ∀ y, hp_r G o2 (s1.toNatClampNeg + i) = some y → hp_kd G y ≠ 0 ∧ hp_kd G y < 28 ∧ hp_sub (hp_kd G y) T4)
    (k : wk_V w mJ17_copyOf j 31 [(2, vR a2)] [] (hp_setR G o1 (va_cpy (hp_r G o2) (hp_r G o1) s1.toNatClampNeg s3.toNatClampNeg s4.toNatClampNeg)) r)
    : wk_V w mJ17_copyOf j 28 [(2, vR a2)] [vI s4, vI s3, vR sa2, vI s1, vR sa0] G r := by
  refine wk_eAt 2 e1 rfl ?_
  refine wk_eAt 4 e2 rfl ?_
  exact wk_acopyR ⟨q615, q617, q616, q134⟩ hA3 hk9 hk8 hT hs1 hs2 hs3 hs4 hs5 hf (Nat.le_of_ble_eq_true rfl) hdp dJ17_copyOf_28 k
theorem blJ17_copyOf_31 {w : WD} {j : JB} {r : Nat} {G : GH} {a2 : Option Nat}
    (hP : j.2.2.1 (some (vR a2)) G)
    : wk_V w mJ17_copyOf j 31 [(2, vR a2)] [] G r := by
  refine wk_aload_n 2 dJ17_copyOf_31 rfl rfl ?_
  exact wk_areturn rfl (Or.inr ⟨_, rfl⟩) dJ17_copyOf_32 hP
/-! java/util/Arrays.copyOf([Ljava/lang/Object;I)[Ljava/lang/Object; -/
theorem blJ17_copyOf_2_0_26 {w : WD} {j : JB} {r : Nat} {G : GH} {a0 : Option Nat} {x1 : Int32} {o1 : Nat}
    (e1 : a0 = some o1)
    (hdp : 1 ≤ j.1)
    (hk9 : hp_kd G o1 = 26)
    (k : wk_V w mJ17_copyOf_2 j 6 [] [vR (some (hp_mi w "java/lang/String")), vI x1, vR a0] G r)
    : wk_V w mJ17_copyOf_2 j 0 [(0, vR a0), (1, vI x1)] [] G r := by
  refine wk_aload_n 0 dJ17_copyOf_2_0 rfl rfl ?_
  refine wk_iload_n 1 dJ17_copyOf_2_1 rfl rfl ?_
  refine wk_aload_n 0 dJ17_copyOf_2_2 rfl rfl ?_
  refine wk_e e1 ?_
  exact wk_getCS hk9 q1466 q1128 q1101 q1137 (Nat.le_of_ble_eq_true rfl) hdp dJ17_copyOf_2_3 (wk_sub [] trivial k)
theorem blJ17_copyOf_2_0_32 {w : WD} {j : JB} {r : Nat} {G : GH} {a0 : Option Nat} {x1 : Int32} {o1 : Nat}
    (e1 : a0 = some o1)
    (hdp : 1 ≤ j.1)
    (hk9 : hp_kd G o1 = 32)
    (k : wk_V w mJ17_copyOf_2 j 6 [] [vR (some (hp_mi w "[Ljava/lang/Object;")), vI x1, vR a0] G r)
    : wk_V w mJ17_copyOf_2 j 0 [(0, vR a0), (1, vI x1)] [] G r := by
  refine wk_aload_n 0 dJ17_copyOf_2_0 rfl rfl ?_
  refine wk_iload_n 1 dJ17_copyOf_2_1 rfl rfl ?_
  refine wk_aload_n 0 dJ17_copyOf_2_2 rfl rfl ?_
  refine wk_e e1 ?_
  exact wk_getCA hk9 q1466 q3282 q1101 q1137 (Nat.le_of_ble_eq_true rfl) hdp dJ17_copyOf_2_3 (wk_sub [] trivial k)
theorem blJ17_copyOf_2_6 {w : WD} {j : JB} {r : Nat} {G : GH} {sa0 : Option Nat} {s1 : Int32} {sa2 : Option Nat} {d' b' : Nat} {P : Option WV → GH → Prop} {PX : String → Nat → GH → Prop}
    (hC : wk_C w mJ17_copyOf_3 d' b' [vR sa0, vI s1, vR sa2] G P PX)
    (hdp : d' + 1 ≤ j.1)
    (hb : b' ≤ r)
    (kr : ∀ v G', P v G' → wk_V w mJ17_copyOf_2 j 9 [] (v.toList ++ []) G' (r - b'))
    (kx : ∀ E q G', PX E q G' → wk_T w mJ17_copyOf_2 j 6 [] G' (r - b') E q)
    : wk_V w mJ17_copyOf_2 j 6 [] [vR sa2, vI s1, vR sa0] G r := by
  exact wk_callS hC rfl q1467 q1468 q133 q1469 mdJ17_copyOf_3 (Nat.le_of_ble_eq_true rfl) rfl rfl (Nat.le_of_ble_eq_true rfl) hdp hb dJ17_copyOf_2_6 kr kx
theorem blJ17_copyOf_2_9 {w : WD} {j : JB} {r : Nat} {G : GH} {sa0 : Option Nat}
    (hP : j.2.2.1 (some (vR sa0)) G)
    : wk_V w mJ17_copyOf_2 j 9 [] [vR sa0] G r := by
  exact wk_areturn rfl (Or.inr ⟨_, rfl⟩) dJ17_copyOf_2_9 hP
/-! java/util/Arrays.copyOf([Ljava/lang/Object;ILjava/lang/Class;)[Ljava/lang/Object; -/
theorem blJ17_copyOf_3_0 {w : WD} {j : JB} {r : Nat} {G : GH} {a0 : Option Nat} {x1 : Int32} {a2 : Option Nat}
    (kt : ¬ (a2 = (some (hp_mi w "[Ljava/lang/Object;"))) → wk_V w mJ17_copyOf_3 j 13 [(0, vR a0), (1, vI x1), (2, vR a2)] [] G r)
    (kf : a2 = (some (hp_mi w "[Ljava/lang/Object;")) → wk_V w mJ17_copyOf_3 j 6 [(0, vR a0), (1, vI x1)] [] G r)
    : wk_V w mJ17_copyOf_3 j 0 [(0, vR a0), (1, vI x1), (2, vR a2)] [] G r := by
  refine wk_aload_n 2 dJ17_copyOf_3_0 rfl rfl ?_
  refine wk_ldcC (C := "[Ljava/lang/Object;") (by decide) q1470 dJ17_copyOf_3_1 ?_
  exact wk_acmp_ne 13 dJ17_copyOf_3_3 (by decide) (fun h => (kt h)) (fun h => (wk_sub [(0, vR a0), (1, vI x1)] ⟨rfl, rfl, trivial⟩ (kf h)))
theorem blJ17_copyOf_3_6 {w : WD} {j : JB} {r : Nat} {G : GH} {a0 : Option Nat} {x1 : Int32}
    (hn : ¬ x1 < 0)
    (hb : x1.toNatClampNeg ≤ 67108864)
    (hr : 1 + x1.toNatClampNeg / 12 ≤ r)
    (k : ∀ q, hp_kd G q = 0 → hp_A w q → wk_V w mJ17_copyOf_3 j 10 [(0, vR a0), (1, vI x1)] [vR (some q)] (hp_nw G q 32 x1.toNatClampNeg) (r - (1 + x1.toNatClampNeg / 12)))
    : wk_V w mJ17_copyOf_3 j 6 [(0, vR a0), (1, vI x1)] [] G r := by
  refine wk_iload_n 1 dJ17_copyOf_3_6 rfl rfl ?_
  refine wk_newq 32 "java/lang/Object" rfl ⟨by decide, by decide⟩ q1472 (by decide +kernel) hn hb hr dJ17_copyOf_3_7 (fun q h1 h2 => ?_)
  exact (k q h1 h2)
theorem blJ17_copyOf_3_10 {w : WD} {j : JB} {r : Nat} {G : GH} {a0 : Option Nat} {x1 : Int32} {sa0 : Option Nat}
    (k : wk_V w mJ17_copyOf_3 j 24 [(0, vR a0), (1, vI x1)] [vR sa0] G r)
    : wk_V w mJ17_copyOf_3 j 10 [(0, vR a0), (1, vI x1)] [vR sa0] G r := by
  exact wk_goto 24 dJ17_copyOf_3_10 (by decide) k
-- blJ17_copyOf_3_13: left out (call without a link)
theorem blJ17_copyOf_3_24 {w : WD} {j : JB} {r : Nat} {G : GH} {a0 : Option Nat} {x1 : Int32} {sa0 : Option Nat} {o1 : Nat}
    (e1 : a0 = some o1)
    (hk2 : 28 ≤ hp_kd G o1)
    (hdp : 1 ≤ j.1)
    (k : wk_V w mJ17_copyOf_3 j 35 [(3, vR sa0)] [vI (if x1 < (nI (hp_ln G o1)) then x1 else (nI (hp_ln G o1))), vI (0 : Int32), vR sa0, vI (0 : Int32), vR a0] G r)
    : wk_V w mJ17_copyOf_3 j 24 [(0, vR a0), (1, vI x1)] [vR sa0] G r := by
  refine wk_astore_n 3 dJ17_copyOf_3_24 rfl (Nat.le_of_ble_eq_true rfl) ?_
  refine wk_aload_n 0 dJ17_copyOf_3_25 rfl rfl ?_
  refine wk_iconst (0 : Int32) dJ17_copyOf_3_26 (by decide) ?_
  refine wk_aload_n 3 dJ17_copyOf_3_27 rfl rfl ?_
  refine wk_iconst (0 : Int32) dJ17_copyOf_3_28 (by decide) ?_
  refine wk_aload_n 0 dJ17_copyOf_3_29 rfl rfl ?_
  refine wk_e e1 ?_
  refine wk_alen hk2 dJ17_copyOf_3_30 ?_
  refine wk_iload_n 1 dJ17_copyOf_3_31 rfl rfl ?_
  refine wk_mmin q612 q613 q132 q614 (Nat.le_of_ble_eq_true rfl) hdp dJ17_copyOf_3_32 ?_
  exact (wk_sub [(3, vR sa0)] ⟨rfl, trivial⟩ k)
theorem blJ17_copyOf_3_35_I {w : WD} {j : JB} {r : Nat} {G : GH} {a3 : Option Nat} {sa0 : Option Nat} {s1 : Int32} {sa2 : Option Nat} {s3 : Int32} {s4 : Int32} {o1 : Nat} {o2 : Nat}
    (e1 : sa2 = some o1)
    (e2 : sa0 = some o2)
    (hA3 : hp_A w o1)
    (hs1 : ¬ s1 < 0)
    (hs2 : ¬ s3 < 0)
    (hs3 : ¬ s4 < 0)
    (hs4 : s1.toNatClampNeg + s4.toNatClampNeg ≤ hp_ln G o2)
    (hs5 : s3.toNatClampNeg + s4.toNatClampNeg ≤ hp_ln G o1)
    (hdp : 1 ≤ j.1)
    (hk9 : 28 ≤ hp_kd G o1 ∧ hp_kd G o1 < 31)
    (hk8 : hp_kd G o2 = hp_kd G o1)
    (hf : ∀ i, i < s4.toNatClampNeg → fits (hp_at (hp_kd G o1)) (.int (hp_i G o2 (s1.toNatClampNeg + i))) = true)
    (k : wk_V w mJ17_copyOf_3 j 38 [(3, vR a3)] [] (hp_setI G o1 (va_cpy (hp_i G o2) (hp_i G o1) s1.toNatClampNeg s3.toNatClampNeg s4.toNatClampNeg)) r)
    : wk_V w mJ17_copyOf_3 j 35 [(3, vR a3)] [vI s4, vI s3, vR sa2, vI s1, vR sa0] G r := by
  refine wk_eAt 2 e1 rfl ?_
  refine wk_eAt 4 e2 rfl ?_
  exact wk_acopyI ⟨q615, q617, q616, q134⟩ hA3 hk9 hk8 hs1 hs2 hs3 hs4 hs5 hf (Nat.le_of_ble_eq_true rfl) hdp dJ17_copyOf_3_35 k
theorem blJ17_copyOf_3_35_R {w : WD} {j : JB} {r : Nat} {G : GH} {a3 : Option Nat} {sa0 : Option Nat} {s1 : Int32} {sa2 : Option Nat} {s3 : Int32} {s4 : Int32} {o1 : Nat} {o2 : Nat} {T4 : String}
    (e1 : sa2 = some o1)
    (e2 : sa0 = some o2)
    (hA3 : hp_A w o1)
    (hs1 : ¬ s1 < 0)
    (hs2 : ¬ s3 < 0)
    (hs3 : ¬ s4 < 0)
    (hs4 : s1.toNatClampNeg + s4.toNatClampNeg ≤ hp_ln G o2)
    (hs5 : s3.toNatClampNeg + s4.toNatClampNeg ≤ hp_ln G o1)
    (hdp : 1 ≤ j.1)
    (hk9 : 32 ≤ hp_kd G o1)
    (hk8 : 32 ≤ hp_kd G o2)
    (hT : hp_at (hp_kd G o1) = .object T4)
    (hf : ∀ i, i < s4.toNatClampNeg → ∀ y, hp_r G o2 (s1.toNatClampNeg + i) = some y → hp_kd G y ≠ 0 ∧ hp_kd G y < 28 ∧ hp_sub (hp_kd G y) T4)
    (k : wk_V w mJ17_copyOf_3 j 38 [(3, vR a3)] [] (hp_setR G o1 (va_cpy (hp_r G o2) (hp_r G o1) s1.toNatClampNeg s3.toNatClampNeg s4.toNatClampNeg)) r)
    : wk_V w mJ17_copyOf_3 j 35 [(3, vR a3)] [vI s4, vI s3, vR sa2, vI s1, vR sa0] G r := by
  refine wk_eAt 2 e1 rfl ?_
  refine wk_eAt 4 e2 rfl ?_
  exact wk_acopyR ⟨q615, q617, q616, q134⟩ hA3 hk9 hk8 hT hs1 hs2 hs3 hs4 hs5 hf (Nat.le_of_ble_eq_true rfl) hdp dJ17_copyOf_3_35 k
theorem blJ17_copyOf_3_38 {w : WD} {j : JB} {r : Nat} {G : GH} {a3 : Option Nat}
    (hP : j.2.2.1 (some (vR a3)) G)
    : wk_V w mJ17_copyOf_3 j 38 [(3, vR a3)] [] G r := by
  refine wk_aload_n 3 dJ17_copyOf_3_38 rfl rfl ?_
  exact wk_areturn rfl (Or.inr ⟨_, rfl⟩) dJ17_copyOf_3_39 hP
/-! java/util/Arrays.copyOfRange([BII)[B -/
theorem blJ17_copyOfRange_0 {w : WD} {j : JB} {r : Nat} {G : GH} {a0 : Option Nat} {x1 : Int32} {x2 : Int32}
    (kt : ¬ (x1 = 0) → wk_V w mJ17_copyOfRange j 10 [(0, vR a0), (1, vI x1), (2, vI x2)] [] G r)
    (kf : x1 = 0 → wk_V w mJ17_copyOfRange j 4 [(0, vR a0), (1, vI x1), (2, vI x2)] [] G r)
    : wk_V w mJ17_copyOfRange j 0 [(0, vR a0), (1, vI x1), (2, vI x2)] [] G r := by
  refine wk_iload_n 1 dJ17_copyOfRange_0 rfl rfl ?_
  exact wk_if_ne 10 dJ17_copyOfRange_1 (by decide) (fun h => (kt h)) (fun h => (kf h))
theorem blJ17_copyOfRange_4 {w : WD} {j : JB} {r : Nat} {G : GH} {a0 : Option Nat} {x1 : Int32} {x2 : Int32} {o1 : Nat}
    (e1 : a0 = some o1)
    (hk2 : 28 ≤ hp_kd G o1)
    (kt : x2 = (nI (hp_ln G o1)) → wk_V w mJ17_copyOfRange j 17 [(0, vR a0)] [] G r)
    (kf : ¬ (x2 = (nI (hp_ln G o1))) → wk_V w mJ17_copyOfRange j 10 [(0, vR a0), (1, vI x1), (2, vI x2)] [] G r)
    : wk_V w mJ17_copyOfRange j 4 [(0, vR a0), (1, vI x1), (2, vI x2)] [] G r := by
  refine wk_iload_n 2 dJ17_copyOfRange_4 rfl rfl ?_
  refine wk_aload_n 0 dJ17_copyOfRange_5 rfl rfl ?_
  refine wk_e e1 ?_
  refine wk_alen hk2 dJ17_copyOfRange_6 ?_
  exact wk_icmp_eq 17 dJ17_copyOfRange_7 (by decide) (fun h => (wk_sub [(0, vR a0)] ⟨rfl, trivial⟩ (kt h))) (fun h => (kf h))
theorem blJ17_copyOfRange_10 {w : WD} {j : JB} {r : Nat} {G : GH} {a0 : Option Nat} {x1 : Int32} {x2 : Int32} {d' b' : Nat} {P : Option WV → GH → Prop} {PX : String → Nat → GH → Prop}
    (hC : wk_C w mJ17_copyOfRangeByte d' b' [vR a0, vI x1, vI x2] G P PX)
    (hdp : d' + 1 ≤ j.1)
    (hb : b' ≤ r)
    (kr : ∀ v G', P v G' → wk_V w mJ17_copyOfRange j 16 [] (v.toList ++ []) G' (r - b'))
    (kx : ∀ E q G', PX E q G' → wk_T w mJ17_copyOfRange j 13 [(0, vR a0), (1, vI x1), (2, vI x2)] G' (r - b') E q)
    : wk_V w mJ17_copyOfRange j 10 [(0, vR a0), (1, vI x1), (2, vI x2)] [] G r := by
  refine wk_aload_n 0 dJ17_copyOfRange_10 rfl rfl ?_
  refine wk_iload_n 1 dJ17_copyOfRange_11 rfl rfl ?_
  refine wk_iload_n 2 dJ17_copyOfRange_12 rfl rfl ?_
  exact wk_callS hC rfl q705 q706 q133 q707 mdJ17_copyOfRangeByte (Nat.le_of_ble_eq_true rfl) rfl rfl (Nat.le_of_ble_eq_true rfl) hdp hb dJ17_copyOfRange_13 (fun v G' h => (wk_sub [] trivial (kr v G' h))) kx
theorem blJ17_copyOfRange_16 {w : WD} {j : JB} {r : Nat} {G : GH} {sa0 : Option Nat}
    (hP : j.2.2.1 (some (vR sa0)) G)
    : wk_V w mJ17_copyOfRange j 16 [] [vR sa0] G r := by
  exact wk_areturn rfl (Or.inr ⟨_, rfl⟩) dJ17_copyOfRange_16 hP
theorem blJ17_copyOfRange_17 {w : WD} {j : JB} {r : Nat} {G : GH} {a0 : Option Nat} {o1 : Nat}
    (e1 : a0 = some o1)
    (hdp : 1 ≤ j.1)
    (hk9 : hp_kd G o1 = 30)
    (hf : ∀ i, i < hp_ln G o1 → fits .byte (.int (hp_i G o1 i)) = true)
    (hr : 1 + hp_ln G o1 / 12 ≤ r)
    (k : ∀ q, hp_kd G q = 0 → hp_A w q → wk_V w mJ17_copyOfRange j 21 [] [vR (some q)] (hp_setI (hp_nw G q 30 (hp_ln G o1)) q (hp_i G o1)) (r - (1 + hp_ln G o1 / 12)))
    : wk_V w mJ17_copyOfRange j 17 [(0, vR a0)] [] G r := by
  refine wk_aload_n 0 dJ17_copyOfRange_17 rfl rfl ?_
  refine wk_e e1 ?_
  refine wk_cloneB hk9 q605 q606 q607 q608 q609 (by decide +kernel) hf (Nat.le_of_ble_eq_true rfl) hdp hr dJ17_copyOfRange_18 (fun q h1 h2 => ?_)
  exact (wk_sub [] trivial (k q h1 h2))
theorem blJ17_copyOfRange_21 {w : WD} {j : JB} {r : Nat} {G : GH} {sa0 : Option Nat} {o1 : Nat}
    (e1 : sa0 = some o1)
    (hk2 : hp_kd G o1 = 30)
    (hP : j.2.2.1 (some (vR (some o1))) G)
    : wk_V w mJ17_copyOfRange j 21 [] [vR sa0] G r := by
  refine wk_e e1 ?_
  refine wk_castA 30 (by decide) hk2 q611 rfl dJ17_copyOfRange_21 ?_
  exact wk_areturn rfl (Or.inr ⟨_, rfl⟩) dJ17_copyOfRange_24 hP
/-! java/util/Arrays.copyOfRangeByte([BII)[B -/
theorem blJ17_copyOfRangeByte_0 {w : WD} {j : JB} {r : Nat} {G : GH} {a0 : Option Nat} {x1 : Int32} {x2 : Int32} {d' b' : Nat} {P : Option WV → GH → Prop} {PX : String → Nat → GH → Prop}
    (hC : wk_C w mJ17_checkLength d' b' [vI x1, vI x2] G P PX)
    (hdp : d' + 1 ≤ j.1)
    (hb : b' ≤ r)
    (kr : ∀ v G', P v G' → wk_V w mJ17_copyOfRangeByte j 5 [(0, vR a0), (1, vI x1), (2, vI x2)] (v.toList ++ []) G' (r - b'))
    (kx : ∀ E q G', PX E q G' → wk_T w mJ17_copyOfRangeByte j 2 [(0, vR a0), (1, vI x1), (2, vI x2)] G' (r - b') E q)
    : wk_V w mJ17_copyOfRangeByte j 0 [(0, vR a0), (1, vI x1), (2, vI x2)] [] G r := by
  refine wk_iload_n 1 dJ17_copyOfRangeByte_0 rfl rfl ?_
  refine wk_iload_n 2 dJ17_copyOfRangeByte_1 rfl rfl ?_
  exact wk_callS hC rfl q708 q709 q133 q710 mdJ17_checkLength (Nat.le_of_ble_eq_true rfl) rfl rfl (Nat.le_of_ble_eq_true rfl) hdp hb dJ17_copyOfRangeByte_2 kr kx
theorem blJ17_copyOfRangeByte_5 {w : WD} {j : JB} {r : Nat} {G : GH} {a0 : Option Nat} {x1 : Int32} {x2 : Int32}
    (hn : ¬ (x2 - x1) < 0)
    (hb : (x2 - x1).toNatClampNeg ≤ 67108864)
    (hr : 1 + (x2 - x1).toNatClampNeg / 12 ≤ r)
    (k : ∀ q, hp_kd G q = 0 → hp_A w q → wk_V w mJ17_copyOfRangeByte j 12 [(0, vR a0), (1, vI x1), (3, vI (x2 - x1))] [vR (some q)] (hp_nw G q 30 (x2 - x1).toNatClampNeg) (r - (1 + (x2 - x1).toNatClampNeg / 12)))
    : wk_V w mJ17_copyOfRangeByte j 5 [(0, vR a0), (1, vI x1), (2, vI x2)] [] G r := by
  refine wk_iload_n 2 dJ17_copyOfRangeByte_5 rfl rfl ?_
  refine wk_iload_n 1 dJ17_copyOfRangeByte_6 rfl rfl ?_
  refine wk_isub dJ17_copyOfRangeByte_7 ?_
  refine wk_istore_n 3 dJ17_copyOfRangeByte_8 rfl (Nat.le_of_ble_eq_true rfl) ?_
  refine wk_iload_n 3 dJ17_copyOfRangeByte_9 rfl rfl ?_
  refine wk_newa 30 rfl ⟨by decide, by decide⟩ q248 hn hb hr dJ17_copyOfRangeByte_10 (fun q h1 h2 => ?_)
  exact (wk_sub [(0, vR a0), (1, vI x1), (3, vI (x2 - x1))] ⟨rfl, rfl, rfl, trivial⟩ (k q h1 h2))
theorem blJ17_copyOfRangeByte_12 {w : WD} {j : JB} {r : Nat} {G : GH} {a0 : Option Nat} {x1 : Int32} {x3 : Int32} {sa0 : Option Nat} {o1 : Nat}
    (e1 : a0 = some o1)
    (hk2 : 28 ≤ hp_kd G o1)
    (hdp : 1 ≤ j.1)
    (k : wk_V w mJ17_copyOfRangeByte j 27 [(4, vR sa0)] [vI (if x3 < ((nI (hp_ln G o1)) - x1) then x3 else ((nI (hp_ln G o1)) - x1)), vI (0 : Int32), vR sa0, vI x1, vR a0] G r)
    : wk_V w mJ17_copyOfRangeByte j 12 [(0, vR a0), (1, vI x1), (3, vI x3)] [vR sa0] G r := by
  refine wk_astore dJ17_copyOfRangeByte_12 (Nat.le_of_ble_eq_true rfl) ?_
  refine wk_aload_n 0 dJ17_copyOfRangeByte_14 rfl rfl ?_
  refine wk_iload_n 1 dJ17_copyOfRangeByte_15 rfl rfl ?_
  refine wk_aload dJ17_copyOfRangeByte_16 rfl ?_
  refine wk_iconst (0 : Int32) dJ17_copyOfRangeByte_18 (by decide) ?_
  refine wk_aload_n 0 dJ17_copyOfRangeByte_19 rfl rfl ?_
  refine wk_e e1 ?_
  refine wk_alen hk2 dJ17_copyOfRangeByte_20 ?_
  refine wk_iload_n 1 dJ17_copyOfRangeByte_21 rfl rfl ?_
  refine wk_isub dJ17_copyOfRangeByte_22 ?_
  refine wk_iload_n 3 dJ17_copyOfRangeByte_23 rfl rfl ?_
  refine wk_mmin q612 q613 q132 q614 (Nat.le_of_ble_eq_true rfl) hdp dJ17_copyOfRangeByte_24 ?_
  exact (wk_sub [(4, vR sa0)] ⟨rfl, trivial⟩ k)
theorem blJ17_copyOfRangeByte_27_I {w : WD} {j : JB} {r : Nat} {G : GH} {a4 : Option Nat} {sa0 : Option Nat} {s1 : Int32} {sa2 : Option Nat} {s3 : Int32} {s4 : Int32} {o1 : Nat} {o2 : Nat}
    (e1 : sa2 = some o1)
    (e2 : sa0 = some o2)
    (hA3 : hp_A w o1)
    (hs1 : ¬ s1 < 0)
    (hs2 : ¬ s3 < 0)
    (hs3 : ¬ s4 < 0)
    (hs4 : s1.toNatClampNeg + s4.toNatClampNeg ≤ hp_ln G o2)
    (hs5 : s3.toNatClampNeg + s4.toNatClampNeg ≤ hp_ln G o1)
    (hdp : 1 ≤ j.1)
    (hk9 : 28 ≤ hp_kd G o1 ∧ hp_kd G o1 < 31)
    (hk8 : hp_kd G o2 = hp_kd G o1)
    (hf : ∀ i, i < s4.toNatClampNeg → fits (hp_at (hp_kd G o1)) (.int (hp_i G o2 (s1.toNatClampNeg + i))) = true)
    (k : wk_V w mJ17_copyOfRangeByte j 30 [(4, vR a4)] [] (hp_setI G o1 (va_cpy (hp_i G o2) (hp_i G o1) s1.toNatClampNeg s3.toNatClampNeg s4.toNatClampNeg)) r)
    : wk_V w mJ17_copyOfRangeByte j 27 [(4, vR a4)] [vI s4, vI s3, vR sa2, vI s1, vR sa0] G r := by
  refine wk_eAt 2 e1 rfl ?_
  refine wk_eAt 4 e2 rfl ?_
  exact wk_acopyI ⟨q615, q617, q616, q134⟩ hA3 hk9 hk8 hs1 hs2 hs3 hs4 hs5 hf (Nat.le_of_ble_eq_true rfl) hdp dJ17_copyOfRangeByte_27 k
theorem blJ17_copyOfRangeByte_27_R {w : WD} {j : JB} {r : Nat} {G : GH} {a4 : Option Nat} {sa0 : Option Nat} {s1 : Int32} {sa2 : Option Nat} {s3 : Int32} {s4 : Int32} {o1 : Nat} {o2 : Nat} {T4 : String}
    (e1 : sa2 = some o1)
    (e2 : sa0 = some o2)
    (hA3 : hp_A w o1)
    (hs1 : ¬ s1 < 0)
    (hs2 : ¬ s3 < 0)
    (hs3 : ¬ s4 < 0)
    (hs4 : s1.toNatClampNeg + s4.toNatClampNeg ≤ hp_ln G o2)
    (hs5 : s3.toNatClampNeg + s4.toNatClampNeg ≤ hp_ln G o1)
    (hdp : 1 ≤ j.1)
    (hk9 : 32 ≤ hp_kd G o1)
    (hk8 : 32 ≤ hp_kd G o2)
    (hT : hp_at (hp_kd G o1) = .object T4)
    (hf : ∀ i, i < s4.toNatClampNeg → ∀ y, hp_r G o2 (s1.toNatClampNeg + i) = some y → hp_kd G y ≠ 0 ∧ hp_kd G y < 28 ∧ hp_sub (hp_kd G y) T4)
    (k : wk_V w mJ17_copyOfRangeByte j 30 [(4, vR a4)] [] (hp_setR G o1 (va_cpy (hp_r G o2) (hp_r G o1) s1.toNatClampNeg s3.toNatClampNeg s4.toNatClampNeg)) r)
    : wk_V w mJ17_copyOfRangeByte j 27 [(4, vR a4)] [vI s4, vI s3, vR sa2, vI s1, vR sa0] G r := by
  refine wk_eAt 2 e1 rfl ?_
  refine wk_eAt 4 e2 rfl ?_
  exact wk_acopyR ⟨q615, q617, q616, q134⟩ hA3 hk9 hk8 hT hs1 hs2 hs3 hs4 hs5 hf (Nat.le_of_ble_eq_true rfl) hdp dJ17_copyOfRangeByte_27 k
theorem blJ17_copyOfRangeByte_30 {w : WD} {j : JB} {r : Nat} {G : GH} {a4 : Option Nat}
    (hP : j.2.2.1 (some (vR a4)) G)
    : wk_V w mJ17_copyOfRangeByte j 30 [(4, vR a4)] [] G r := by
  refine wk_aload dJ17_copyOfRangeByte_30 rfl ?_
  exact wk_areturn rfl (Or.inr ⟨_, rfl⟩) dJ17_copyOfRangeByte_32 hP
/-! java/util/Arrays.fill([II)V -/
theorem blJ17_fill_0 {w : WD} {j : JB} {r : Nat} {G : GH} {a0 : Option Nat} {x1 : Int32} {o1 : Nat}
    (e1 : a0 = some o1)
    (hk2 : 28 ≤ hp_kd G o1)
    (k : wk_V w mJ17_fill j 5 [(0, vR a0), (1, vI x1), (2, vI (0 : Int32)), (3, vI (nI (hp_ln G o1)))] [] G r)
    : wk_V w mJ17_fill j 0 [(0, vR a0), (1, vI x1)] [] G r := by
  refine wk_iconst (0 : Int32) dJ17_fill_0 (by decide) ?_
  refine wk_istore_n 2 dJ17_fill_1 rfl (Nat.le_of_ble_eq_true rfl) ?_
  refine wk_aload_n 0 dJ17_fill_2 rfl rfl ?_
  refine wk_e e1 ?_
  refine wk_alen hk2 dJ17_fill_3 ?_
  refine wk_istore_n 3 dJ17_fill_4 rfl (Nat.le_of_ble_eq_true rfl) ?_
  exact k
theorem blJ17_fill_5 {w : WD} {j : JB} {r : Nat} {G : GH} {a0 : Option Nat} {x1 : Int32} {x2 : Int32} {x3 : Int32}
    (kt : x3 ≤ x2 → wk_V w mJ17_fill j 20 [] [] G r)
    (kf : ¬ (x3 ≤ x2) → wk_V w mJ17_fill j 10 [(0, vR a0), (1, vI x1), (2, vI x2), (3, vI x3)] [] G r)
    : wk_V w mJ17_fill j 5 [(0, vR a0), (1, vI x1), (2, vI x2), (3, vI x3)] [] G r := by
  refine wk_iload_n 2 dJ17_fill_5 rfl rfl ?_
  refine wk_iload_n 3 dJ17_fill_6 rfl rfl ?_
  exact wk_icmp_ge 20 dJ17_fill_7 (by decide) (fun h => (wk_sub [] trivial (kt h))) (fun h => (kf h))
theorem blJ17_fill_10 {w : WD} {j : JB} {r : Nat} {G : GH} {a0 : Option Nat} {x1 : Int32} {x2 : Int32} {x3 : Int32} {o1 : Nat}
    (e1 : a0 = some o1)
    (hi2 : vp_in x2 (hp_ln G o1))
    (hA3 : hp_A w o1)
    (hk4 : hp_kd G o1 = 28)
    (k : wk_V w mJ17_fill j 5 [(0, vR a0), (1, vI x1), (2, vI (x2 + (1 : Int32))), (3, vI x3)] [] (hp_sI G o1 x2.toNatClampNeg x1) r)
    : wk_V w mJ17_fill j 10 [(0, vR a0), (1, vI x1), (2, vI x2), (3, vI x3)] [] G r := by
  refine wk_aload_n 0 dJ17_fill_10 rfl rfl ?_
  refine wk_iload_n 2 dJ17_fill_11 rfl rfl ?_
  refine wk_iload_n 1 dJ17_fill_12 rfl rfl ?_
  refine wk_e3 e1 ?_
  refine wk_iast hk4 hA3 hi2 dJ17_fill_13 ?_
  refine wk_iincC (1 : Int32) dJ17_fill_14 rfl (by decide) (Nat.le_of_ble_eq_true rfl) ?_
  exact wk_goto 5 dJ17_fill_17 (by decide) k
theorem blJ17_fill_20 {w : WD} {j : JB} {r : Nat} {G : GH}
    (hP : j.2.2.1 none G)
    : wk_V w mJ17_fill j 20 [] [] G r := by
  exact wk_return rfl dJ17_fill_20 hP
/-! java/lang/StringLatin1.canEncode(C)Z -/
theorem blJ18_canEncode_0 {w : WD} {j : JB} {r : Nat} {G : GH} {x0 : Int32}
    (kt : (255 : Int32) < x0 → wk_V w mJ18_canEncode j 11 [] [] G r)
    (kf : ¬ ((255 : Int32) < x0) → wk_V w mJ18_canEncode j 7 [] [] G r)
    : wk_V w mJ18_canEncode j 0 [(0, vI x0)] [] G r := by
  refine wk_iload_n 0 dJ18_canEncode_0 rfl rfl ?_
  refine wk_sipush (255 : Int32) dJ18_canEncode_1 (by decide) ?_
  exact wk_icmp_gt 11 dJ18_canEncode_4 (by decide) (fun h => (wk_sub [] trivial (kt h))) (fun h => (wk_sub [] trivial (kf h)))
theorem blJ18_canEncode_7 {w : WD} {j : JB} {r : Nat} {G : GH}
    (k : wk_V w mJ18_canEncode j 12 [] [vI (1 : Int32)] G r)
    : wk_V w mJ18_canEncode j 7 [] [] G r := by
  refine wk_iconst (1 : Int32) dJ18_canEncode_7 (by decide) ?_
  exact wk_goto 12 dJ18_canEncode_8 (by decide) k
theorem blJ18_canEncode_11 {w : WD} {j : JB} {r : Nat} {G : GH}
    (k : wk_V w mJ18_canEncode j 12 [] [vI (0 : Int32)] G r)
    : wk_V w mJ18_canEncode j 11 [] [] G r := by
  refine wk_iconst (0 : Int32) dJ18_canEncode_11 (by decide) ?_
  exact k
theorem blJ18_canEncode_12 {w : WD} {j : JB} {r : Nat} {G : GH} {s0 : Int32}
    (hn : narrow .boolean (.int s0) = .int s0)
    (hP : j.2.2.1 (some (vI s0)) G)
    : wk_V w mJ18_canEncode j 12 [] [vI s0] G r := by
  exact wk_ireturn rfl hn dJ18_canEncode_12 hP
/-! java/lang/StringLatin1.charAt([BI)C -/
theorem blJ18_charAt_0 {w : WD} {j : JB} {r : Nat} {G : GH} {a0 : Option Nat} {x1 : Int32} {o1 : Nat} {d' b' : Nat} {P : Option WV → GH → Prop} {PX : String → Nat → GH → Prop}
    (e1 : a0 = some o1)
    (hk2 : 28 ≤ hp_kd G o1)
    (hC : wk_C w mJ13_checkIndex d' b' [vI x1, vI (nI (hp_ln G o1))] G P PX)
    (hdp : d' + 1 ≤ j.1)
    (hb : b' ≤ r)
    (kr : ∀ v G', P v G' → wk_V w mJ18_charAt j 6 [(0, vR a0), (1, vI x1)] (v.toList ++ []) G' (r - b'))
    (kx : ∀ E q G', PX E q G' → wk_T w mJ18_charAt j 3 [(0, vR a0), (1, vI x1)] G' (r - b') E q)
    : wk_V w mJ18_charAt j 0 [(0, vR a0), (1, vI x1)] [] G r := by
  refine wk_iload_n 1 dJ18_charAt_0 rfl rfl ?_
  refine wk_aload_n 0 dJ18_charAt_1 rfl rfl ?_
  refine wk_e e1 ?_
  refine wk_alen hk2 dJ18_charAt_2 ?_
  exact wk_callS hC rfl q2896 q666 q129 q667 mdJ13_checkIndex (Nat.le_of_ble_eq_true rfl) rfl rfl (Nat.le_of_ble_eq_true rfl) hdp hb dJ18_charAt_3 kr kx
theorem blJ18_charAt_6 {w : WD} {j : JB} {r : Nat} {G : GH} {a0 : Option Nat} {x1 : Int32} {o1 : Nat}
    (e1 : a0 = some o1)
    (hi2 : vp_in x1 (hp_ln G o1))
    (hk3 : hp_kd G o1 = 30)
    (hn : narrow .char (.int ((((hp_i G o1 x1.toNatClampNeg) &&& (255 : Int32)).toUInt32 % 65536).toInt32)) = .int ((((hp_i G o1 x1.toNatClampNeg) &&& (255 : Int32)).toUInt32 % 65536).toInt32))
    (hP : j.2.2.1 (some (vI ((((hp_i G o1 x1.toNatClampNeg) &&& (255 : Int32)).toUInt32 % 65536).toInt32))) G)
    : wk_V w mJ18_charAt j 6 [(0, vR a0), (1, vI x1)] [] G r := by
  refine wk_aload_n 0 dJ18_charAt_6 rfl rfl ?_
  refine wk_iload_n 1 dJ18_charAt_7 rfl rfl ?_
  refine wk_e2 e1 ?_
  refine wk_bald hk3 hi2 dJ18_charAt_8 ?_
  refine wk_sipush (255 : Int32) dJ18_charAt_9 (by decide) ?_
  refine wk_iand dJ18_charAt_12 ?_
  refine wk_i2c dJ18_charAt_13 ?_
  exact wk_ireturn rfl hn dJ18_charAt_14 hP
/-! java/lang/StringLatin1.compareTo([B[B)I -/
theorem blJ18_compareTo_0 {w : WD} {j : JB} {r : Nat} {G : GH} {a0 : Option Nat} {a1 : Option Nat} {o1 : Nat} {o3 : Nat} {d' b' : Nat} {P : Option WV → GH → Prop} {PX : String → Nat → GH → Prop}
    (e1 : a0 = some o1)
    (hk2 : 28 ≤ hp_kd G o1)
    (e3 : a1 = some o3)
    (hk4 : 28 ≤ hp_kd G o3)
    (hC : wk_C w mJ18_compareTo_2 d' b' [vR a0, vR a1, vI (nI (hp_ln G o1)), vI (nI (hp_ln G o3))] G P PX)
    (hdp : d' + 1 ≤ j.1)
    (hb : b' ≤ r)
    (kr : ∀ v G', P v G' → wk_V w mJ18_compareTo j 13 [] (v.toList ++ []) G' (r - b'))
    (kx : ∀ E q G', PX E q G' → wk_T w mJ18_compareTo j 10 [(0, vR a0), (1, vR a1), (2, vI (nI (hp_ln G o1))), (3, vI (nI (hp_ln G o3)))] G' (r - b') E q)
    : wk_V w mJ18_compareTo j 0 [(0, vR a0), (1, vR a1)] [] G r := by
  refine wk_aload_n 0 dJ18_compareTo_0 rfl rfl ?_
  refine wk_e e1 ?_
  refine wk_alen hk2 dJ18_compareTo_1 ?_
  refine wk_istore_n 2 dJ18_compareTo_2 rfl (Nat.le_of_ble_eq_true rfl) ?_
  refine wk_aload_n 1 dJ18_compareTo_3 rfl rfl ?_
  refine wk_e e3 ?_
  refine wk_alen hk4 dJ18_compareTo_4 ?_
  refine wk_istore_n 3 dJ18_compareTo_5 rfl (Nat.le_of_ble_eq_true rfl) ?_
  refine wk_aload_n 0 dJ18_compareTo_6 rfl rfl ?_
  refine wk_aload_n 1 dJ18_compareTo_7 rfl rfl ?_
  refine wk_iload_n 2 dJ18_compareTo_8 rfl rfl ?_
  refine wk_iload_n 3 dJ18_compareTo_9 rfl rfl ?_
  exact wk_callS hC rfl q1182 q1183 q135 q1184 mdJ18_compareTo_2 (Nat.le_of_ble_eq_true rfl) rfl rfl (Nat.le_of_ble_eq_true rfl) hdp hb dJ18_compareTo_10 (fun v G' h => (wk_sub [] trivial (kr v G' h))) kx
theorem blJ18_compareTo_13 {w : WD} {j : JB} {r : Nat} {G : GH} {s0 : Int32}
    (hP : j.2.2.1 (some (vI s0)) G)
    : wk_V w mJ18_compareTo j 13 [] [vI s0] G r := by
  exact wk_ireturn rfl rfl dJ18_compareTo_13 hP
/-! java/lang/StringLatin1.compareTo([B[BII)I -/
theorem blJ18_compareTo_2_0 {w : WD} {j : JB} {r : Nat} {G : GH} {a0 : Option Nat} {a1 : Option Nat} {x2 : Int32} {x3 : Int32}
    (hdp : 1 ≤ j.1)
    (k : wk_V w mJ18_compareTo_2 j 5 [(0, vR a0), (1, vR a1), (2, vI x2), (3, vI x3)] [vI (if x3 < x2 then x3 else x2)] G r)
    : wk_V w mJ18_compareTo_2 j 0 [(0, vR a0), (1, vR a1), (2, vI x2), (3, vI x3)] [] G r := by
  refine wk_iload_n 2 dJ18_compareTo_2_0 rfl rfl ?_
  refine wk_iload_n 3 dJ18_compareTo_2_1 rfl rfl ?_
  refine wk_mmin q1185 q613 q132 q614 (Nat.le_of_ble_eq_true rfl) hdp dJ18_compareTo_2_2 ?_
  exact k
theorem blJ18_compareTo_2_5 {w : WD} {j : JB} {r : Nat} {G : GH} {a0 : Option Nat} {a1 : Option Nat} {x2 : Int32} {x3 : Int32} {s0 : Int32} {d' b' : Nat} {P : Option WV → GH → Prop} {PX : String → Nat → GH → Prop}
    (hC : wk_C w mJ15_mismatch d' b' [vR a0, vR a1, vI s0] G P PX)
    (hdp : d' + 1 ≤ j.1)
    (hb : b' ≤ r)
    (kr : ∀ v G', P v G' → wk_V w mJ18_compareTo_2 j 14 [(0, vR a0), (1, vR a1), (2, vI x2), (3, vI x3)] (v.toList ++ []) G' (r - b'))
    (kx : ∀ E q G', PX E q G' → wk_T w mJ18_compareTo_2 j 11 [(0, vR a0), (1, vR a1), (2, vI x2), (3, vI x3), (4, vI s0)] G' (r - b') E q)
    : wk_V w mJ18_compareTo_2 j 5 [(0, vR a0), (1, vR a1), (2, vI x2), (3, vI x3)] [vI s0] G r := by
  refine wk_istore dJ18_compareTo_2_5 (Nat.le_of_ble_eq_true rfl) ?_
  refine wk_aload_n 0 dJ18_compareTo_2_7 rfl rfl ?_
  refine wk_aload_n 1 dJ18_compareTo_2_8 rfl rfl ?_
  refine wk_iload dJ18_compareTo_2_9 rfl ?_
  exact wk_callS hC rfl q1186 q1187 q131 q1188 mdJ15_mismatch (Nat.le_of_ble_eq_true rfl) rfl rfl (Nat.le_of_ble_eq_true rfl) hdp hb dJ18_compareTo_2_11 (fun v G' h => (wk_sub [(0, vR a0), (1, vR a1), (2, vI x2), (3, vI x3)] ⟨rfl, rfl, rfl, rfl, trivial⟩ (kr v G' h))) kx
theorem blJ18_compareTo_2_14 {w : WD} {j : JB} {r : Nat} {G : GH} {a0 : Option Nat} {a1 : Option Nat} {x2 : Int32} {x3 : Int32} {s0 : Int32}
    (kt : 0 ≤ s0 → wk_V w mJ18_compareTo_2 j 27 [(0, vR a0), (1, vR a1), (5, vI s0)] [] G r)
    (kf : ¬ (0 ≤ s0) → wk_V w mJ18_compareTo_2 j 21 [(2, vI x2), (3, vI x3)] [] G r)
    : wk_V w mJ18_compareTo_2 j 14 [(0, vR a0), (1, vR a1), (2, vI x2), (3, vI x3)] [vI s0] G r := by
  refine wk_istore dJ18_compareTo_2_14 (Nat.le_of_ble_eq_true rfl) ?_
  refine wk_iload dJ18_compareTo_2_16 rfl ?_
  exact wk_if_ge 27 dJ18_compareTo_2_18 (by decide) (fun h => (wk_sub [(0, vR a0), (1, vR a1), (5, vI s0)] ⟨rfl, rfl, rfl, trivial⟩ (kt h))) (fun h => (wk_sub [(2, vI x2), (3, vI x3)] ⟨rfl, rfl, trivial⟩ (kf h)))
theorem blJ18_compareTo_2_21 {w : WD} {j : JB} {r : Nat} {G : GH} {x2 : Int32} {x3 : Int32}
    (k : wk_V w mJ18_compareTo_2 j 40 [] [vI (x2 - x3)] G r)
    : wk_V w mJ18_compareTo_2 j 21 [(2, vI x2), (3, vI x3)] [] G r := by
  refine wk_iload_n 2 dJ18_compareTo_2_21 rfl rfl ?_
  refine wk_iload_n 3 dJ18_compareTo_2_22 rfl rfl ?_
  refine wk_isub dJ18_compareTo_2_23 ?_
  exact wk_goto 40 dJ18_compareTo_2_24 (by decide) (wk_sub [] trivial k)
theorem blJ18_compareTo_2_27 {w : WD} {j : JB} {r : Nat} {G : GH} {a0 : Option Nat} {a1 : Option Nat} {x5 : Int32} {d' b' : Nat} {P : Option WV → GH → Prop} {PX : String → Nat → GH → Prop}
    (hC : wk_C w mJ18_getChar d' b' [vR a0, vI x5] G P PX)
    (hdp : d' + 1 ≤ j.1)
    (hb : b' ≤ r)
    (kr : ∀ v G', P v G' → wk_V w mJ18_compareTo_2 j 33 [(1, vR a1), (5, vI x5)] (v.toList ++ []) G' (r - b'))
    (kx : ∀ E q G', PX E q G' → wk_T w mJ18_compareTo_2 j 30 [(0, vR a0), (1, vR a1), (5, vI x5)] G' (r - b') E q)
    : wk_V w mJ18_compareTo_2 j 27 [(0, vR a0), (1, vR a1), (5, vI x5)] [] G r := by
  refine wk_aload_n 0 dJ18_compareTo_2_27 rfl rfl ?_
  refine wk_iload dJ18_compareTo_2_28 rfl ?_
  exact wk_callS hC rfl q1290 q1291 q135 q1292 mdJ18_getChar (Nat.le_of_ble_eq_true rfl) rfl rfl (Nat.le_of_ble_eq_true rfl) hdp hb dJ18_compareTo_2_30 (fun v G' h => (wk_sub [(1, vR a1), (5, vI x5)] ⟨rfl, rfl, trivial⟩ (kr v G' h))) kx
theorem blJ18_compareTo_2_33 {w : WD} {j : JB} {r : Nat} {G : GH} {a1 : Option Nat} {x5 : Int32} {s0 : Int32} {d' b' : Nat} {P : Option WV → GH → Prop} {PX : String → Nat → GH → Prop}
    (hC : wk_C w mJ18_getChar d' b' [vR a1, vI x5] G P PX)
    (hdp : d' + 1 ≤ j.1)
    (hb : b' ≤ r)
    (kr : ∀ v G', P v G' → wk_V w mJ18_compareTo_2 j 39 [] (v.toList ++ [vI s0]) G' (r - b'))
    (kx : ∀ E q G', PX E q G' → wk_T w mJ18_compareTo_2 j 36 [(1, vR a1), (5, vI x5)] G' (r - b') E q)
    : wk_V w mJ18_compareTo_2 j 33 [(1, vR a1), (5, vI x5)] [vI s0] G r := by
  refine wk_aload_n 1 dJ18_compareTo_2_33 rfl rfl ?_
  refine wk_iload dJ18_compareTo_2_34 rfl ?_
  exact wk_callS hC rfl q1290 q1291 q135 q1292 mdJ18_getChar (Nat.le_of_ble_eq_true rfl) rfl rfl (Nat.le_of_ble_eq_true rfl) hdp hb dJ18_compareTo_2_36 (fun v G' h => (wk_sub [] trivial (kr v G' h))) kx
theorem blJ18_compareTo_2_39 {w : WD} {j : JB} {r : Nat} {G : GH} {s0 : Int32} {s1 : Int32}
    (k : wk_V w mJ18_compareTo_2 j 40 [] [vI (s0 - s1)] G r)
    : wk_V w mJ18_compareTo_2 j 39 [] [vI s1, vI s0] G r := by
  refine wk_isub dJ18_compareTo_2_39 ?_
  exact k
theorem blJ18_compareTo_2_40 {w : WD} {j : JB} {r : Nat} {G : GH} {s0 : Int32}
    (hP : j.2.2.1 (some (vI s0)) G)
    : wk_V w mJ18_compareTo_2 j 40 [] [vI s0] G r := by
  exact wk_ireturn rfl rfl dJ18_compareTo_2_40 hP
/-! java/lang/StringLatin1.equals([B[B)Z -/
theorem blJ18_equals_0 {w : WD} {j : JB} {r : Nat} {G : GH} {a0 : Option Nat} {a1 : Option Nat} {o1 : Nat} {o3 : Nat}
    (e1 : a0 = some o1)
    (hk2 : 28 ≤ hp_kd G o1)
    (e3 : a1 = some o3)
    (hk4 : 28 ≤ hp_kd G o3)
    (kt : ¬ ((nI (hp_ln G o1)) = (nI (hp_ln G o3))) → wk_V w mJ18_equals j 34 [] [] G r)
    (kf : (nI (hp_ln G o1)) = (nI (hp_ln G o3)) → wk_V w mJ18_equals j 7 [(0, vR a0), (1, vR a1)] [] G r)
    : wk_V w mJ18_equals j 0 [(0, vR a0), (1, vR a1)] [] G r := by
  refine wk_aload_n 0 dJ18_equals_0 rfl rfl ?_
  refine wk_e e1 ?_
  refine wk_alen hk2 dJ18_equals_1 ?_
  refine wk_aload_n 1 dJ18_equals_2 rfl rfl ?_
  refine wk_e e3 ?_
  refine wk_alen hk4 dJ18_equals_3 ?_
  exact wk_icmp_ne 34 dJ18_equals_4 (by decide) (fun h => (wk_sub [] trivial (kt h))) (fun h => (kf h))
theorem blJ18_equals_7 {w : WD} {j : JB} {r : Nat} {G : GH} {a0 : Option Nat} {a1 : Option Nat}
    (k : wk_V w mJ18_equals j 9 [(0, vR a0), (1, vR a1), (2, vI (0 : Int32))] [] G r)
    : wk_V w mJ18_equals j 7 [(0, vR a0), (1, vR a1)] [] G r := by
  refine wk_iconst (0 : Int32) dJ18_equals_7 (by decide) ?_
  refine wk_istore_n 2 dJ18_equals_8 rfl (Nat.le_of_ble_eq_true rfl) ?_
  exact k
theorem blJ18_equals_9 {w : WD} {j : JB} {r : Nat} {G : GH} {a0 : Option Nat} {a1 : Option Nat} {x2 : Int32} {o1 : Nat}
    (e1 : a0 = some o1)
    (hk2 : 28 ≤ hp_kd G o1)
    (kt : (nI (hp_ln G o1)) ≤ x2 → wk_V w mJ18_equals j 32 [] [] G r)
    (kf : ¬ ((nI (hp_ln G o1)) ≤ x2) → wk_V w mJ18_equals j 15 [(0, vR a0), (1, vR a1), (2, vI x2)] [] G r)
    : wk_V w mJ18_equals j 9 [(0, vR a0), (1, vR a1), (2, vI x2)] [] G r := by
  refine wk_iload_n 2 dJ18_equals_9 rfl rfl ?_
  refine wk_aload_n 0 dJ18_equals_10 rfl rfl ?_
  refine wk_e e1 ?_
  refine wk_alen hk2 dJ18_equals_11 ?_
  exact wk_icmp_ge 32 dJ18_equals_12 (by decide) (fun h => (wk_sub [] trivial (kt h))) (fun h => (kf h))
theorem blJ18_equals_15 {w : WD} {j : JB} {r : Nat} {G : GH} {a0 : Option Nat} {a1 : Option Nat} {x2 : Int32} {o1 : Nat} {o4 : Nat}
    (e1 : a0 = some o1)
    (hi2 : vp_in x2 (hp_ln G o1))
    (hk3 : hp_kd G o1 = 30)
    (e4 : a1 = some o4)
    (hi5 : vp_in x2 (hp_ln G o4))
    (hk6 : hp_kd G o4 = 30)
    (kt : (hp_i G o1 x2.toNatClampNeg) = (hp_i G o4 x2.toNatClampNeg) → wk_V w mJ18_equals j 26 [(0, vR a0), (1, vR a1), (2, vI x2)] [] G r)
    (kf : ¬ ((hp_i G o1 x2.toNatClampNeg) = (hp_i G o4 x2.toNatClampNeg)) → wk_V w mJ18_equals j 24 [] [] G r)
    : wk_V w mJ18_equals j 15 [(0, vR a0), (1, vR a1), (2, vI x2)] [] G r := by
  refine wk_aload_n 0 dJ18_equals_15 rfl rfl ?_
  refine wk_iload_n 2 dJ18_equals_16 rfl rfl ?_
  refine wk_e2 e1 ?_
  refine wk_bald hk3 hi2 dJ18_equals_17 ?_
  refine wk_aload_n 1 dJ18_equals_18 rfl rfl ?_
  refine wk_iload_n 2 dJ18_equals_19 rfl rfl ?_
  refine wk_e2 e4 ?_
  refine wk_bald hk6 hi5 dJ18_equals_20 ?_
  exact wk_icmp_eq 26 dJ18_equals_21 (by decide) (fun h => (kt h)) (fun h => (wk_sub [] trivial (kf h)))
theorem blJ18_equals_24 {w : WD} {j : JB} {r : Nat} {G : GH}
    (hP : j.2.2.1 (some (vI (0 : Int32))) G)
    : wk_V w mJ18_equals j 24 [] [] G r := by
  refine wk_iconst (0 : Int32) dJ18_equals_24 (by decide) ?_
  exact wk_ireturn rfl rfl dJ18_equals_25 hP
theorem blJ18_equals_26 {w : WD} {j : JB} {r : Nat} {G : GH} {a0 : Option Nat} {a1 : Option Nat} {x2 : Int32}
    (k : wk_V w mJ18_equals j 9 [(0, vR a0), (1, vR a1), (2, vI (x2 + (1 : Int32)))] [] G r)
    : wk_V w mJ18_equals j 26 [(0, vR a0), (1, vR a1), (2, vI x2)] [] G r := by
  refine wk_iincC (1 : Int32) dJ18_equals_26 rfl (by decide) (Nat.le_of_ble_eq_true rfl) ?_
  exact wk_goto 9 dJ18_equals_29 (by decide) k
theorem blJ18_equals_32 {w : WD} {j : JB} {r : Nat} {G : GH}
    (hP : j.2.2.1 (some (vI (1 : Int32))) G)
    : wk_V w mJ18_equals j 32 [] [] G r := by
  refine wk_iconst (1 : Int32) dJ18_equals_32 (by decide) ?_
  exact wk_ireturn rfl rfl dJ18_equals_33 hP
theorem blJ18_equals_34 {w : WD} {j : JB} {r : Nat} {G : GH}
    (hP : j.2.2.1 (some (vI (0 : Int32))) G)
    : wk_V w mJ18_equals j 34 [] [] G r := by
  refine wk_iconst (0 : Int32) dJ18_equals_34 (by decide) ?_
  exact wk_ireturn rfl rfl dJ18_equals_35 hP
/-! java/lang/StringLatin1.getChar([BI)C -/
theorem blJ18_getChar_0 {w : WD} {j : JB} {r : Nat} {G : GH} {a0 : Option Nat} {x1 : Int32} {o1 : Nat}
    (e1 : a0 = some o1)
    (hi2 : vp_in x1 (hp_ln G o1))
    (hk3 : hp_kd G o1 = 30)
    (hn : narrow .char (.int ((((hp_i G o1 x1.toNatClampNeg) &&& (255 : Int32)).toUInt32 % 65536).toInt32)) = .int ((((hp_i G o1 x1.toNatClampNeg) &&& (255 : Int32)).toUInt32 % 65536).toInt32))
    (hP : j.2.2.1 (some (vI ((((hp_i G o1 x1.toNatClampNeg) &&& (255 : Int32)).toUInt32 % 65536).toInt32))) G)
    : wk_V w mJ18_getChar j 0 [(0, vR a0), (1, vI x1)] [] G r := by
  refine wk_aload_n 0 dJ18_getChar_0 rfl rfl ?_
  refine wk_iload_n 1 dJ18_getChar_1 rfl rfl ?_
  refine wk_e2 e1 ?_
  refine wk_bald hk3 hi2 dJ18_getChar_2 ?_
  refine wk_sipush (255 : Int32) dJ18_getChar_3 (by decide) ?_
  refine wk_iand dJ18_getChar_6 ?_
  refine wk_i2c dJ18_getChar_7 ?_
  exact wk_ireturn rfl hn dJ18_getChar_8 hP
/-! java/lang/StringLatin1.hashCode([B)I -/
theorem blJ18_hashCode_0 {w : WD} {j : JB} {r : Nat} {G : GH} {a0 : Option Nat} {o1 : Nat}
    (e1 : a0 = some o1)
    (hk2 : 28 ≤ hp_kd G o1)
    (c0 : (nI (hp_ln G o1)) = (0 : Int32) → wk_V w mJ18_hashCode j 28 [] [] G r)
    (c1 : (nI (hp_ln G o1)) = (1 : Int32) → wk_V w mJ18_hashCode j 32 [(0, vR a0)] [] G r)
    (kd : (nI (hp_ln G o1)) ≠ (0 : Int32) → (nI (hp_ln G o1)) ≠ (1 : Int32) → wk_V w mJ18_hashCode j 42 [(0, vR a0)] [] G r)
    : wk_V w mJ18_hashCode j 0 [(0, vR a0)] [] G r := by
  refine wk_aload_n 0 dJ18_hashCode_0 rfl rfl ?_
  refine wk_e e1 ?_
  refine wk_alen hk2 dJ18_hashCode_1 ?_
  refine wk_lookupQ [0, 1] (fun k => ([28, 32] : List Nat).getD k 0) 42 dJ18_hashCode_2 (by decide) (by decide) (fun k hk => ?_) (by decide) (fun k hk e => ?_) (fun h => ?_)
  · match k, hk with
    | 0, _ => exact (by decide)
    | 1, _ => exact (by decide)
    | k + 2, hk => exact absurd hk (by simp)
  · match k, hk, e with
    | 0, _, e => exact (wk_sub [] trivial (c0 e))
    | 1, _, e => exact (c1 e)
    | k + 2, hk, _ => exact absurd hk (by simp)
  · exact (kd (fun e => h 0 (by decide) e) (fun e => h 1 (by decide) e))
theorem blJ18_hashCode_28 {w : WD} {j : JB} {r : Nat} {G : GH}
    (k : wk_V w mJ18_hashCode j 51 [] [vI (0 : Int32)] G r)
    : wk_V w mJ18_hashCode j 28 [] [] G r := by
  refine wk_iconst (0 : Int32) dJ18_hashCode_28 (by decide) ?_
  exact wk_goto 51 dJ18_hashCode_29 (by decide) k
theorem blJ18_hashCode_32 {w : WD} {j : JB} {r : Nat} {G : GH} {a0 : Option Nat} {o1 : Nat}
    (e1 : a0 = some o1)
    (hi2 : vp_in (0 : Int32) (hp_ln G o1))
    (hk3 : hp_kd G o1 = 30)
    (k : wk_V w mJ18_hashCode j 51 [] [vI ((hp_i G o1 (0 : Int32).toNatClampNeg) &&& (255 : Int32))] G r)
    : wk_V w mJ18_hashCode j 32 [(0, vR a0)] [] G r := by
  refine wk_aload_n 0 dJ18_hashCode_32 rfl rfl ?_
  refine wk_iconst (0 : Int32) dJ18_hashCode_33 (by decide) ?_
  refine wk_e2 e1 ?_
  refine wk_bald hk3 hi2 dJ18_hashCode_34 ?_
  refine wk_sipush (255 : Int32) dJ18_hashCode_35 (by decide) ?_
  refine wk_iand dJ18_hashCode_38 ?_
  exact wk_goto 51 dJ18_hashCode_39 (by decide) (wk_sub [] trivial k)
theorem blJ18_hashCode_42 {w : WD} {j : JB} {r : Nat} {G : GH} {a0 : Option Nat} {o1 : Nat} {d' b' : Nat} {P : Option WV → GH → Prop} {PX : String → Nat → GH → Prop}
    (e1 : a0 = some o1)
    (hk2 : 28 ≤ hp_kd G o1)
    (hC : wk_C w mJ15_vectorizedHashCode d' b' [vR a0, vI (0 : Int32), vI (nI (hp_ln G o1)), vI (0 : Int32), vI (4 : Int32)] G P PX)
    (hdp : d' + 1 ≤ j.1)
    (hb : b' ≤ r)
    (kr : ∀ v G', P v G' → wk_V w mJ18_hashCode j 51 [] (v.toList ++ []) G' (r - b'))
    (kx : ∀ E q G', PX E q G' → wk_T w mJ18_hashCode j 48 [(0, vR a0)] G' (r - b') E q)
    : wk_V w mJ18_hashCode j 42 [(0, vR a0)] [] G r := by
  refine wk_aload_n 0 dJ18_hashCode_42 rfl rfl ?_
  refine wk_iconst (0 : Int32) dJ18_hashCode_43 (by decide) ?_
  refine wk_aload_n 0 dJ18_hashCode_44 rfl rfl ?_
  refine wk_e e1 ?_
  refine wk_alen hk2 dJ18_hashCode_45 ?_
  refine wk_iconst (0 : Int32) dJ18_hashCode_46 (by decide) ?_
  refine wk_iconst (4 : Int32) dJ18_hashCode_47 (by decide) ?_
  exact wk_callS hC rfl q925 q926 q131 q927 mdJ15_vectorizedHashCode (Nat.le_of_ble_eq_true rfl) rfl rfl (Nat.le_of_ble_eq_true rfl) hdp hb dJ18_hashCode_48 (fun v G' h => (wk_sub [] trivial (kr v G' h))) kx
theorem blJ18_hashCode_51 {w : WD} {j : JB} {r : Nat} {G : GH} {s0 : Int32}
    (hP : j.2.2.1 (some (vI s0)) G)
    : wk_V w mJ18_hashCode j 51 [] [vI s0] G r := by
  exact wk_ireturn rfl rfl dJ18_hashCode_51 hP
/-! java/lang/StringLatin1.length([B)I -/
theorem blJ18_length_0 {w : WD} {j : JB} {r : Nat} {G : GH} {a0 : Option Nat} {o1 : Nat}
    (e1 : a0 = some o1)
    (hk2 : 28 ≤ hp_kd G o1)
    (hP : j.2.2.1 (some (vI (nI (hp_ln G o1)))) G)
    : wk_V w mJ18_length j 0 [(0, vR a0)] [] G r := by
  refine wk_aload_n 0 dJ18_length_0 rfl rfl ?_
  refine wk_e e1 ?_
  refine wk_alen hk2 dJ18_length_1 ?_
  exact wk_ireturn rfl rfl dJ18_length_2 hP
/-! jdk/internal/util/Preconditions.checkIndex(IILjava/util/function/BiFunction;)I -/
theorem blJ19_checkIndex_0 {w : WD} {j : JB} {r : Nat} {G : GH} {x0 : Int32} {x1 : Int32} {a2 : Option Nat}
    (kt : x0 < 0 → wk_V w mJ19_checkIndex j 9 [(0, vI x0), (1, vI x1), (2, vR a2)] [] G r)
    (kf : ¬ (x0 < 0) → wk_V w mJ19_checkIndex j 4 [(0, vI x0), (1, vI x1), (2, vR a2)] [] G r)
    : wk_V w mJ19_checkIndex j 0 [(0, vI x0), (1, vI x1), (2, vR a2)] [] G r := by
  refine wk_iload_n 0 dJ19_checkIndex_0 rfl rfl ?_
  exact wk_if_lt 9 dJ19_checkIndex_1 (by decide) (fun h => (kt h)) (fun h => (kf h))
theorem blJ19_checkIndex_4 {w : WD} {j : JB} {r : Nat} {G : GH} {x0 : Int32} {x1 : Int32} {a2 : Option Nat}
    (kt : x0 < x1 → wk_V w mJ19_checkIndex j 16 [(0, vI x0)] [] G r)
    (kf : ¬ (x0 < x1) → wk_V w mJ19_checkIndex j 9 [(0, vI x0), (1, vI x1), (2, vR a2)] [] G r)
    : wk_V w mJ19_checkIndex j 4 [(0, vI x0), (1, vI x1), (2, vR a2)] [] G r := by
  refine wk_iload_n 0 dJ19_checkIndex_4 rfl rfl ?_
  refine wk_iload_n 1 dJ19_checkIndex_5 rfl rfl ?_
  exact wk_icmp_lt 16 dJ19_checkIndex_6 (by decide) (fun h => (wk_sub [(0, vI x0)] ⟨rfl, trivial⟩ (kt h))) (fun h => (kf h))
-- blJ19_checkIndex_9: left out (call without a link)
theorem blJ19_checkIndex_16 {w : WD} {j : JB} {r : Nat} {G : GH} {x0 : Int32}
    (hP : j.2.2.1 (some (vI x0)) G)
    : wk_V w mJ19_checkIndex j 16 [(0, vI x0)] [] G r := by
  refine wk_iload_n 0 dJ19_checkIndex_16 rfl rfl ?_
  exact wk_ireturn rfl rfl dJ19_checkIndex_17 hP
/-! java/util/Objects.checkIndex(II)I -/
theorem blJ23_checkIndex_0 {w : WD} {j : JB} {r : Nat} {G : GH} {x0 : Int32} {x1 : Int32} {d' b' : Nat} {P : Option WV → GH → Prop} {PX : String → Nat → GH → Prop}
    (hC : wk_C w mJ19_checkIndex d' b' [vI x0, vI x1, vR none] G P PX)
    (hdp : d' + 1 ≤ j.1)
    (hb : b' ≤ r)
    (kr : ∀ v G', P v G' → wk_V w mJ23_checkIndex j 6 [] (v.toList ++ []) G' (r - b'))
    (kx : ∀ E q G', PX E q G' → wk_T w mJ23_checkIndex j 3 [(0, vI x0), (1, vI x1)] G' (r - b') E q)
    : wk_V w mJ23_checkIndex j 0 [(0, vI x0), (1, vI x1)] [] G r := by
  refine wk_iload_n 0 dJ23_checkIndex_0 rfl rfl ?_
  refine wk_iload_n 1 dJ23_checkIndex_1 rfl rfl ?_
  refine wk_null dJ23_checkIndex_2 ?_
  exact wk_callS hC rfl q1440 q669 q136 q670 mdJ19_checkIndex (Nat.le_of_ble_eq_true rfl) rfl rfl (Nat.le_of_ble_eq_true rfl) hdp hb dJ23_checkIndex_3 (fun v G' h => (wk_sub [] trivial (kr v G' h))) kx
theorem blJ23_checkIndex_6 {w : WD} {j : JB} {r : Nat} {G : GH} {s0 : Int32}
    (hP : j.2.2.1 (some (vI s0)) G)
    : wk_V w mJ23_checkIndex j 6 [] [vI s0] G r := by
  exact wk_ireturn rfl rfl dJ23_checkIndex_6 hP
/-! java/util/HashMap$Node.<init>(ILjava/lang/Object;Ljava/lang/Object;Ljava/util/HashMap$Node;)V -/
theorem blJ24_init_0 {w : WD} {j : JB} {r : Nat} {G : GH} {a0 : Nat} {x1 : Int32} {a2 : Option Nat} {a3 : Option Nat} {a4 : Option Nat}
    (hdp : 1 ≤ j.1)
    (k : wk_V w mJ24_init j 4 [(0, vR (some a0)), (1, vI x1), (2, vR a2), (3, vR a3), (4, vR a4)] [] G r)
    : wk_V w mJ24_init j 0 [(0, vR (some a0)), (1, vI x1), (2, vR a2), (3, vR a3), (4, vR a4)] [] G r := by
  refine wk_aload_n 0 dJ24_init_0 rfl rfl ?_
  exact wk_objInit q1595 q171 q172 (by decide) hdp dJ24_init_1 k
theorem blJ24_init_4 {w : WD} {j : JB} {r : Nat} {G : GH} {a0 : Nat} {x1 : Int32} {a2 : Option Nat} {a3 : Option Nat} {a4 : Option Nat}
    (hk1 : 24 ≤ hp_kd G a0 ∧ hp_kd G a0 ≤ 25)
    (hA2 : hp_A w a0)
    (k : wk_V w mJ24_init j 14 [(0, vR (some a0)), (3, vR a3), (4, vR a4)] [] (hp_sR (hp_sI G a0 0 x1) a0 1 a2) r)
    : wk_V w mJ24_init j 4 [(0, vR (some a0)), (1, vI x1), (2, vR a2), (3, vR a3), (4, vR a4)] [] G r := by
  refine wk_aload_n 0 dJ24_init_4 rfl rfl ?_
  refine wk_iload_n 1 dJ24_init_5 rfl rfl ?_
  refine wk_putI (hp_kd G a0) 0 (flJ24_7 _ hk1.1 hk1.2) (flJ24_7_t _ hk1.1 hk1.2).1 (Or.inr ⟨rfl, (flJ24_7_t _ hk1.1 hk1.2).2.2.1⟩) rfl hA2 (by rw [(flJ24_7_t _ hk1.1 hk1.2).2.2.2]; exact ⟨rfl, rfl⟩) dJ24_init_6 ?_
  refine wk_aload_n 0 dJ24_init_9 rfl rfl ?_
  refine wk_aload_n 2 dJ24_init_10 rfl rfl ?_
  refine wk_putR (hp_kd G a0) 1 (flJ24_13 _ hk1.1 hk1.2) (flJ24_13_t _ hk1.1 hk1.2).1 (Or.inr ⟨rfl, (flJ24_13_t _ hk1.1 hk1.2).2.2.1⟩) rfl hA2 dJ24_init_11 ?_
  exact (wk_sub [(0, vR (some a0)), (3, vR a3), (4, vR a4)] ⟨rfl, rfl, rfl, trivial⟩ k)
theorem blJ24_init_14 {w : WD} {j : JB} {r : Nat} {G : GH} {a0 : Nat} {a3 : Option Nat} {a4 : Option Nat}
    (hk1 : 24 ≤ hp_kd G a0 ∧ hp_kd G a0 ≤ 25)
    (hA2 : hp_A w a0)
    (k : wk_V w mJ24_init j 25 [] [] (hp_sR (hp_sR G a0 2 a3) a0 3 a4) r)
    : wk_V w mJ24_init j 14 [(0, vR (some a0)), (3, vR a3), (4, vR a4)] [] G r := by
  refine wk_aload_n 0 dJ24_init_14 rfl rfl ?_
  refine wk_aload_n 3 dJ24_init_15 rfl rfl ?_
  refine wk_putR (hp_kd G a0) 2 (flJ24_17 _ hk1.1 hk1.2) (flJ24_17_t _ hk1.1 hk1.2).1 (Or.inl (flJ24_17_t _ hk1.1 hk1.2).2.1) rfl hA2 dJ24_init_16 ?_
  refine wk_aload_n 0 dJ24_init_19 rfl rfl ?_
  refine wk_aload dJ24_init_20 rfl ?_
  refine wk_putR (hp_kd G a0) 3 (flJ24_20 _ hk1.1 hk1.2) (flJ24_20_t _ hk1.1 hk1.2).1 (Or.inl (flJ24_20_t _ hk1.1 hk1.2).2.1) rfl hA2 dJ24_init_22 ?_
  exact (wk_sub [] trivial k)
theorem blJ24_init_25 {w : WD} {j : JB} {r : Nat} {G : GH}
    (hP : j.2.2.1 none G)
    : wk_V w mJ24_init j 25 [] [] G r := by
  exact wk_return rfl dJ24_init_25 hP
/-! java/util/LinkedHashMap$Entry.<init>(ILjava/lang/Object;Ljava/lang/Object;Ljava/util/HashMap$Node;)V -/
theorem blJ25_init_0 {w : WD} {j : JB} {r : Nat} {G : GH} {a0 : Nat} {x1 : Int32} {a2 : Option Nat} {a3 : Option Nat} {a4 : Option Nat} {d' b' : Nat} {P : Option WV → GH → Prop} {PX : String → Nat → GH → Prop}
    (hC : wk_C w mJ24_init d' b' [vR (some a0), vI x1, vR a2, vR a3, vR a4] G P PX)
    (hdp : d' + 1 ≤ j.1)
    (hb : b' ≤ r)
    (kr : ∀ v G', P v G' → wk_V w mJ25_init j 9 [] (v.toList ++ []) G' (r - b'))
    (kx : ∀ E q G', PX E q G' → wk_T w mJ25_init j 6 [(0, vR (some a0)), (1, vI x1), (2, vR a2), (3, vR a3), (4, vR a4)] G' (r - b') E q)
    : wk_V w mJ25_init j 0 [(0, vR (some a0)), (1, vI x1), (2, vR a2), (3, vR a3), (4, vR a4)] [] G r := by
  refine wk_aload_n 0 dJ25_init_0 rfl rfl ?_
  refine wk_iload_n 1 dJ25_init_1 rfl rfl ?_
  refine wk_aload_n 2 dJ25_init_2 rfl rfl ?_
  refine wk_aload_n 3 dJ25_init_3 rfl rfl ?_
  refine wk_aload dJ25_init_4 rfl ?_
  exact wk_callI hC rfl rfl rfl q1658 q1593 q147 q1594 mdJ24_init (Nat.le_of_ble_eq_true rfl) rfl rfl (Nat.le_of_ble_eq_true rfl) hdp hb dJ25_init_6 (fun v G' h => (wk_sub [] trivial (kr v G' h))) kx
theorem blJ25_init_9 {w : WD} {j : JB} {r : Nat} {G : GH}
    (hP : j.2.2.1 none G)
    : wk_V w mJ25_init j 9 [] [] G r := by
  exact wk_return rfl dJ25_init_9 hP
/-! java/util/HashMap$TreeNode.balanceInsertion(Ljava/util/HashMap$TreeNode;Ljava/util/HashMap$TreeNode;)Ljava/util/HashMap$TreeNode; -/
theorem blJ26_balanceInsertion_0 {w : WD} {j : JB} {r : Nat} {G : GH} {a0 : Option Nat} {a1 : Option Nat} {o1 : Nat}
    (e1 : a1 = some o1)
    (hk2 : hp_kd G o1 = 25)
    (hA3 : hp_A w o1)
    (k : wk_V w mJ26_balanceInsertion j 5 [(0, vR a0), (1, vR a1)] [] (hp_sI G o1 8 (1 : Int32)) r)
    : wk_V w mJ26_balanceInsertion j 0 [(0, vR a0), (1, vR a1)] [] G r := by
  refine wk_aload_n 1 dJ26_balanceInsertion_0 rfl rfl ?_
  refine wk_iconst (1 : Int32) dJ26_balanceInsertion_1 (by decide) ?_
  refine wk_e2 e1 ?_
  refine wk_putI 25 8 flJ26_93 rfl (Or.inl rfl) hk2 hA3 ⟨rfl, rfl⟩ dJ26_balanceInsertion_2 ?_
  exact k
theorem blJ26_balanceInsertion_5 {w : WD} {j : JB} {r : Nat} {G : GH} {a0 : Option Nat} {a1 : Option Nat} {o1 : Nat}
    (e1 : a1 = some o1)
    (hk2 : hp_kd G o1 = 25)
    (kt : ∀ o9, (hp_r G o1 4) = some o9 → wk_V w mJ26_balanceInsertion j 21 [(0, vR a0), (1, vR a1), (2, vR (hp_r G o1 4))] [] G r)
    (kf : (hp_r G o1 4) = none → wk_V w mJ26_balanceInsertion j 14 [(1, vR a1)] [] G r)
    : wk_V w mJ26_balanceInsertion j 5 [(0, vR a0), (1, vR a1)] [] G r := by
  refine wk_aload_n 1 dJ26_balanceInsertion_5 rfl rfl ?_
  refine wk_e e1 ?_
  refine wk_getR 25 4 flJ26_9 rfl hk2 dJ26_balanceInsertion_6 ?_
  refine wk_dup dJ26_balanceInsertion_9 rfl ?_
  refine wk_astore_n 2 dJ26_balanceInsertion_10 rfl (Nat.le_of_ble_eq_true rfl) ?_
  exact wk_ifnonnull 21 dJ26_balanceInsertion_11 (by decide) (fun o9 h => (kt o9 h)) (fun h => (wk_sub [(1, vR a1)] ⟨rfl, trivial⟩ (kf h)))
theorem blJ26_balanceInsertion_14 {w : WD} {j : JB} {r : Nat} {G : GH} {a1 : Option Nat} {o1 : Nat}
    (e1 : a1 = some o1)
    (hk2 : hp_kd G o1 = 25)
    (hA3 : hp_A w o1)
    (hP : j.2.2.1 (some (vR a1)) (hp_sI G o1 8 (0 : Int32)))
    : wk_V w mJ26_balanceInsertion j 14 [(1, vR a1)] [] G r := by
  refine wk_aload_n 1 dJ26_balanceInsertion_14 rfl rfl ?_
  refine wk_iconst (0 : Int32) dJ26_balanceInsertion_15 (by decide) ?_
  refine wk_e2 e1 ?_
  refine wk_putI 25 8 flJ26_93 rfl (Or.inl rfl) hk2 hA3 ⟨rfl, rfl⟩ dJ26_balanceInsertion_16 ?_
  refine wk_aload_n 1 dJ26_balanceInsertion_19 rfl rfl ?_
  exact wk_areturn rfl (Or.inl ⟨_, rfl⟩) dJ26_balanceInsertion_20 hP
theorem blJ26_balanceInsertion_21 {w : WD} {j : JB} {r : Nat} {G : GH} {a0 : Option Nat} {a1 : Option Nat} {a2 : Option Nat} {o1 : Nat}
    (e1 : a2 = some o1)
    (hk2 : hp_kd G o1 = 25)
    (kt : (hp_i G o1 8) = 0 → wk_V w mJ26_balanceInsertion j 37 [(0, vR a0)] [] G r)
    (kf : ¬ ((hp_i G o1 8) = 0) → wk_V w mJ26_balanceInsertion j 28 [(0, vR a0), (1, vR a1), (2, vR a2)] [] G r)
    : wk_V w mJ26_balanceInsertion j 21 [(0, vR a0), (1, vR a1), (2, vR a2)] [] G r := by
  refine wk_aload_n 2 dJ26_balanceInsertion_21 rfl rfl ?_
  refine wk_e e1 ?_
  refine wk_getI 25 8 flJ26_93 rfl hk2 dJ26_balanceInsertion_22 ?_
  exact wk_if_eq 37 dJ26_balanceInsertion_25 (by decide) (fun h => (wk_sub [(0, vR a0)] ⟨rfl, trivial⟩ (kt h))) (fun h => (kf h))
theorem blJ26_balanceInsertion_28 {w : WD} {j : JB} {r : Nat} {G : GH} {a0 : Option Nat} {a1 : Option Nat} {a2 : Option Nat} {o1 : Nat}
    (e1 : a2 = some o1)
    (hk2 : hp_kd G o1 = 25)
    (kt : ∀ o9, (hp_r G o1 4) = some o9 → wk_V w mJ26_balanceInsertion j 39 [(0, vR a0), (1, vR a1), (2, vR a2), (3, vR (hp_r G o1 4))] [] G r)
    (kf : (hp_r G o1 4) = none → wk_V w mJ26_balanceInsertion j 37 [(0, vR a0)] [] G r)
    : wk_V w mJ26_balanceInsertion j 28 [(0, vR a0), (1, vR a1), (2, vR a2)] [] G r := by
  refine wk_aload_n 2 dJ26_balanceInsertion_28 rfl rfl ?_
  refine wk_e e1 ?_
  refine wk_getR 25 4 flJ26_9 rfl hk2 dJ26_balanceInsertion_29 ?_
  refine wk_dup dJ26_balanceInsertion_32 rfl ?_
  refine wk_astore_n 3 dJ26_balanceInsertion_33 rfl (Nat.le_of_ble_eq_true rfl) ?_
  exact wk_ifnonnull 39 dJ26_balanceInsertion_34 (by decide) (fun o9 h => (kt o9 h)) (fun h => (wk_sub [(0, vR a0)] ⟨rfl, trivial⟩ (kf h)))
theorem blJ26_balanceInsertion_37 {w : WD} {j : JB} {r : Nat} {G : GH} {a0 : Option Nat}
    (hP : j.2.2.1 (some (vR a0)) G)
    : wk_V w mJ26_balanceInsertion j 37 [(0, vR a0)] [] G r := by
  refine wk_aload_n 0 dJ26_balanceInsertion_37 rfl rfl ?_
  exact wk_areturn rfl (Or.inl ⟨_, rfl⟩) dJ26_balanceInsertion_38 hP
theorem blJ26_balanceInsertion_39 {w : WD} {j : JB} {r : Nat} {G : GH} {a0 : Option Nat} {a1 : Option Nat} {a2 : Option Nat} {a3 : Option Nat} {o1 : Nat}
    (e1 : a3 = some o1)
    (hk2 : hp_kd G o1 = 25)
    (kt : ¬ (a2 = (hp_r G o1 5)) → wk_V w mJ26_balanceInsertion j 150 [(0, vR a0), (1, vR a1), (2, vR a2), (3, vR a3), (4, vR (hp_r G o1 5))] [] G r)
    (kf : a2 = (hp_r G o1 5) → wk_V w mJ26_balanceInsertion j 50 [(0, vR a0), (1, vR a1), (2, vR a2), (3, vR a3)] [] G r)
    : wk_V w mJ26_balanceInsertion j 39 [(0, vR a0), (1, vR a1), (2, vR a2), (3, vR a3)] [] G r := by
  refine wk_aload_n 2 dJ26_balanceInsertion_39 rfl rfl ?_
  refine wk_aload_n 3 dJ26_balanceInsertion_40 rfl rfl ?_
  refine wk_e e1 ?_
  refine wk_getR 25 5 flJ26_39 rfl hk2 dJ26_balanceInsertion_41 ?_
  refine wk_dup dJ26_balanceInsertion_44 rfl ?_
  refine wk_astore dJ26_balanceInsertion_45 (Nat.le_of_ble_eq_true rfl) ?_
  exact wk_acmp_ne 150 dJ26_balanceInsertion_47 (by decide) (fun h => (kt h)) (fun h => (wk_sub [(0, vR a0), (1, vR a1), (2, vR a2), (3, vR a3)] ⟨rfl, rfl, rfl, rfl, trivial⟩ (kf h)))
theorem blJ26_balanceInsertion_50 {w : WD} {j : JB} {r : Nat} {G : GH} {a0 : Option Nat} {a1 : Option Nat} {a2 : Option Nat} {a3 : Option Nat} {o1 : Nat}
    (e1 : a3 = some o1)
    (hk2 : hp_kd G o1 = 25)
    (kt : (hp_r G o1 6) = none → wk_V w mJ26_balanceInsertion j 89 [(0, vR a0), (1, vR a1), (2, vR a2), (3, vR a3)] [] G r)
    (kf : ∀ o9, (hp_r G o1 6) = some o9 → wk_V w mJ26_balanceInsertion j 60 [(0, vR a0), (1, vR a1), (2, vR a2), (3, vR a3), (5, vR (hp_r G o1 6))] [] G r)
    : wk_V w mJ26_balanceInsertion j 50 [(0, vR a0), (1, vR a1), (2, vR a2), (3, vR a3)] [] G r := by
  refine wk_aload_n 3 dJ26_balanceInsertion_50 rfl rfl ?_
  refine wk_e e1 ?_
  refine wk_getR 25 6 flJ26_42 rfl hk2 dJ26_balanceInsertion_51 ?_
  refine wk_dup dJ26_balanceInsertion_54 rfl ?_
  refine wk_astore dJ26_balanceInsertion_55 (Nat.le_of_ble_eq_true rfl) ?_
  exact wk_ifnull 89 dJ26_balanceInsertion_57 (by decide) (fun h => (wk_sub [(0, vR a0), (1, vR a1), (2, vR a2), (3, vR a3)] ⟨rfl, rfl, rfl, rfl, trivial⟩ (kt h))) (fun o9 h => (kf o9 h))
theorem blJ26_balanceInsertion_60 {w : WD} {j : JB} {r : Nat} {G : GH} {a0 : Option Nat} {a1 : Option Nat} {a2 : Option Nat} {a3 : Option Nat} {a5 : Option Nat} {o1 : Nat}
    (e1 : a5 = some o1)
    (hk2 : hp_kd G o1 = 25)
    (kt : (hp_i G o1 8) = 0 → wk_V w mJ26_balanceInsertion j 89 [(0, vR a0), (1, vR a1), (2, vR a2), (3, vR a3)] [] G r)
    (kf : ¬ ((hp_i G o1 8) = 0) → wk_V w mJ26_balanceInsertion j 68 [(0, vR a0), (2, vR a2), (3, vR a3), (5, vR a5)] [] G r)
    : wk_V w mJ26_balanceInsertion j 60 [(0, vR a0), (1, vR a1), (2, vR a2), (3, vR a3), (5, vR a5)] [] G r := by
  refine wk_aload dJ26_balanceInsertion_60 rfl ?_
  refine wk_e e1 ?_
  refine wk_getI 25 8 flJ26_93 rfl hk2 dJ26_balanceInsertion_62 ?_
  exact wk_if_eq 89 dJ26_balanceInsertion_65 (by decide) (fun h => (wk_sub [(0, vR a0), (1, vR a1), (2, vR a2), (3, vR a3)] ⟨rfl, rfl, rfl, rfl, trivial⟩ (kt h))) (fun h => (wk_sub [(0, vR a0), (2, vR a2), (3, vR a3), (5, vR a5)] ⟨rfl, rfl, rfl, rfl, trivial⟩ (kf h)))
theorem blJ26_balanceInsertion_68 {w : WD} {j : JB} {r : Nat} {G : GH} {a0 : Option Nat} {a2 : Option Nat} {a3 : Option Nat} {a5 : Option Nat} {o1 : Nat} {o4 : Nat}
    (e1 : a5 = some o1)
    (hk2 : hp_kd G o1 = 25)
    (hA3 : hp_A w o1)
    (e4 : a2 = some o4)
    (hk5 : hp_kd G o4 = 25)
    (hA6 : hp_A w o4)
    (k : wk_V w mJ26_balanceInsertion j 79 [(0, vR a0), (3, vR a3)] [] (hp_sI (hp_sI G o1 8 (0 : Int32)) o4 8 (0 : Int32)) r)
    : wk_V w mJ26_balanceInsertion j 68 [(0, vR a0), (2, vR a2), (3, vR a3), (5, vR a5)] [] G r := by
  refine wk_aload dJ26_balanceInsertion_68 rfl ?_
  refine wk_iconst (0 : Int32) dJ26_balanceInsertion_70 (by decide) ?_
  refine wk_e2 e1 ?_
  refine wk_putI 25 8 flJ26_93 rfl (Or.inl rfl) hk2 hA3 ⟨rfl, rfl⟩ dJ26_balanceInsertion_71 ?_
  refine wk_aload_n 2 dJ26_balanceInsertion_74 rfl rfl ?_
  refine wk_iconst (0 : Int32) dJ26_balanceInsertion_75 (by decide) ?_
  refine wk_e2 e4 ?_
  refine wk_putI 25 8 flJ26_93 rfl (Or.inl rfl) hk5 hA6 ⟨rfl, rfl⟩ dJ26_balanceInsertion_76 ?_
  exact (wk_sub [(0, vR a0), (3, vR a3)] ⟨rfl, rfl, trivial⟩ k)
theorem blJ26_balanceInsertion_79 {w : WD} {j : JB} {r : Nat} {G : GH} {a0 : Option Nat} {a3 : Option Nat} {o1 : Nat}
    (e1 : a3 = some o1)
    (hk2 : hp_kd G o1 = 25)
    (hA3 : hp_A w o1)
    (k : wk_V w mJ26_balanceInsertion j 5 [(0, vR a0), (1, vR a3)] [] (hp_sI G o1 8 (1 : Int32)) r)
    : wk_V w mJ26_balanceInsertion j 79 [(0, vR a0), (3, vR a3)] [] G r := by
  refine wk_aload_n 3 dJ26_balanceInsertion_79 rfl rfl ?_
  refine wk_iconst (1 : Int32) dJ26_balanceInsertion_80 (by decide) ?_
  refine wk_e2 e1 ?_
  refine wk_putI 25 8 flJ26_93 rfl (Or.inl rfl) hk2 hA3 ⟨rfl, rfl⟩ dJ26_balanceInsertion_81 ?_
  refine wk_aload_n 3 dJ26_balanceInsertion_84 rfl rfl ?_
  refine wk_astore_n 1 dJ26_balanceInsertion_85 rfl (Nat.le_of_ble_eq_true rfl) ?_
  exact wk_goto 5 dJ26_balanceInsertion_86 (by decide) (wk_sub [(0, vR a0), (1, vR a3)] ⟨rfl, rfl, trivial⟩ k)
theorem blJ26_balanceInsertion_89 {w : WD} {j : JB} {r : Nat} {G : GH} {a0 : Option Nat} {a1 : Option Nat} {a2 : Option Nat} {a3 : Option Nat} {o1 : Nat}
    (e1 : a2 = some o1)
    (hk2 : hp_kd G o1 = 25)
    (kt : ¬ (a1 = (hp_r G o1 6)) → wk_V w mJ26_balanceInsertion j 123 [(0, vR a0), (1, vR a1), (2, vR a2), (3, vR a3)] [] G r)
    (kf : a1 = (hp_r G o1 6) → wk_V w mJ26_balanceInsertion j 97 [(0, vR a0), (2, vR a2)] [] G r)
    : wk_V w mJ26_balanceInsertion j 89 [(0, vR a0), (1, vR a1), (2, vR a2), (3, vR a3)] [] G r := by
  refine wk_aload_n 1 dJ26_balanceInsertion_89 rfl rfl ?_
  refine wk_aload_n 2 dJ26_balanceInsertion_90 rfl rfl ?_
  refine wk_e e1 ?_
  refine wk_getR 25 6 flJ26_42 rfl hk2 dJ26_balanceInsertion_91 ?_
  exact wk_acmp_ne 123 dJ26_balanceInsertion_94 (by decide) (fun h => (kt h)) (fun h => (wk_sub [(0, vR a0), (2, vR a2)] ⟨rfl, rfl, trivial⟩ (kf h)))
theorem blJ26_balanceInsertion_97 {w : WD} {j : JB} {r : Nat} {G : GH} {a0 : Option Nat} {a2 : Option Nat} {d' b' : Nat} {P : Option WV → GH → Prop} {PX : String → Nat → GH → Prop}
    (hC : wk_C w mJ26_rotateLeft d' b' [vR a0, vR a2] G P PX)
    (hdp : d' + 1 ≤ j.1)
    (hb : b' ≤ r)
    (kr : ∀ v G', P v G' → wk_V w mJ26_balanceInsertion j 104 [(1, vR a2)] (v.toList ++ []) G' (r - b'))
    (kx : ∀ E q G', PX E q G' → wk_T w mJ26_balanceInsertion j 101 [(0, vR a0), (1, vR a2), (2, vR a2)] G' (r - b') E q)
    : wk_V w mJ26_balanceInsertion j 97 [(0, vR a0), (2, vR a2)] [] G r := by
  refine wk_aload_n 0 dJ26_balanceInsertion_97 rfl rfl ?_
  refine wk_aload_n 2 dJ26_balanceInsertion_98 rfl rfl ?_
  refine wk_dup dJ26_balanceInsertion_99 rfl ?_
  refine wk_astore_n 1 dJ26_balanceInsertion_100 rfl (Nat.le_of_ble_eq_true rfl) ?_
  exact wk_callS hC rfl q1628 q1629 q149 q1630 mdJ26_rotateLeft (Nat.le_of_ble_eq_true rfl) rfl rfl (Nat.le_of_ble_eq_true rfl) hdp hb dJ26_balanceInsertion_101 (fun v G' h => (wk_sub [(1, vR a2)] ⟨rfl, trivial⟩ (kr v G' h))) kx
theorem blJ26_balanceInsertion_104 {w : WD} {j : JB} {r : Nat} {G : GH} {a1 : Option Nat} {sa0 : Option Nat} {o1 : Nat}
    (e1 : a1 = some o1)
    (hk2 : hp_kd G o1 = 25)
    (kt : ∀ o9, (hp_r G o1 4) = some o9 → wk_V w mJ26_balanceInsertion j 118 [(0, vR sa0), (1, vR a1), (2, vR (hp_r G o1 4))] [] G r)
    (kf : (hp_r G o1 4) = none → wk_V w mJ26_balanceInsertion j 114 [(0, vR sa0), (1, vR a1), (2, vR (hp_r G o1 4))] [] G r)
    : wk_V w mJ26_balanceInsertion j 104 [(1, vR a1)] [vR sa0] G r := by
  refine wk_astore_n 0 dJ26_balanceInsertion_104 rfl (Nat.le_of_ble_eq_true rfl) ?_
  refine wk_aload_n 1 dJ26_balanceInsertion_105 rfl rfl ?_
  refine wk_e e1 ?_
  refine wk_getR 25 4 flJ26_9 rfl hk2 dJ26_balanceInsertion_106 ?_
  refine wk_dup dJ26_balanceInsertion_109 rfl ?_
  refine wk_astore_n 2 dJ26_balanceInsertion_110 rfl (Nat.le_of_ble_eq_true rfl) ?_
  exact wk_ifnonnull 118 dJ26_balanceInsertion_111 (by decide) (fun o9 h => (kt o9 h)) (fun h => (kf h))
theorem blJ26_balanceInsertion_114 {w : WD} {j : JB} {r : Nat} {G : GH} {a0 : Option Nat} {a1 : Option Nat} {a2 : Option Nat}
    (k : wk_V w mJ26_balanceInsertion j 122 [(0, vR a0), (1, vR a1), (2, vR a2)] [vR none] G r)
    : wk_V w mJ26_balanceInsertion j 114 [(0, vR a0), (1, vR a1), (2, vR a2)] [] G r := by
  refine wk_null dJ26_balanceInsertion_114 ?_
  exact wk_goto 122 dJ26_balanceInsertion_115 (by decide) k
theorem blJ26_balanceInsertion_118 {w : WD} {j : JB} {r : Nat} {G : GH} {a0 : Option Nat} {a1 : Option Nat} {a2 : Option Nat} {o1 : Nat}
    (e1 : a2 = some o1)
    (hk2 : hp_kd G o1 = 25)
    (k : wk_V w mJ26_balanceInsertion j 122 [(0, vR a0), (1, vR a1), (2, vR a2)] [vR (hp_r G o1 4)] G r)
    : wk_V w mJ26_balanceInsertion j 118 [(0, vR a0), (1, vR a1), (2, vR a2)] [] G r := by
  refine wk_aload_n 2 dJ26_balanceInsertion_118 rfl rfl ?_
  refine wk_e e1 ?_
  refine wk_getR 25 4 flJ26_9 rfl hk2 dJ26_balanceInsertion_119 ?_
  exact k
theorem blJ26_balanceInsertion_122 {w : WD} {j : JB} {r : Nat} {G : GH} {a0 : Option Nat} {a1 : Option Nat} {a2 : Option Nat} {sa0 : Option Nat}
    (k : wk_V w mJ26_balanceInsertion j 123 [(0, vR a0), (1, vR a1), (2, vR a2), (3, vR sa0)] [] G r)
    : wk_V w mJ26_balanceInsertion j 122 [(0, vR a0), (1, vR a1), (2, vR a2)] [vR sa0] G r := by
  refine wk_astore_n 3 dJ26_balanceInsertion_122 rfl (Nat.le_of_ble_eq_true rfl) ?_
  exact k
theorem blJ26_balanceInsertion_123 {w : WD} {j : JB} {r : Nat} {G : GH} {a0 : Option Nat} {a1 : Option Nat} {a2 : Option Nat} {a3 : Option Nat}
    (kt : a2 = none → wk_V w mJ26_balanceInsertion j 5 [(0, vR a0), (1, vR a1)] [] G r)
    (kf : ∀ o9, a2 = some o9 → wk_V w mJ26_balanceInsertion j 127 [(0, vR a0), (1, vR a1), (2, vR a2), (3, vR a3)] [] G r)
    : wk_V w mJ26_balanceInsertion j 123 [(0, vR a0), (1, vR a1), (2, vR a2), (3, vR a3)] [] G r := by
  refine wk_aload_n 2 dJ26_balanceInsertion_123 rfl rfl ?_
  exact wk_ifnull 5 dJ26_balanceInsertion_124 (by decide) (fun h => (wk_sub [(0, vR a0), (1, vR a1)] ⟨rfl, rfl, trivial⟩ (kt h))) (fun o9 h => (kf o9 h))
theorem blJ26_balanceInsertion_127 {w : WD} {j : JB} {r : Nat} {G : GH} {a0 : Option Nat} {a1 : Option Nat} {a2 : Option Nat} {a3 : Option Nat} {o1 : Nat}
    (e1 : a2 = some o1)
    (hk2 : hp_kd G o1 = 25)
    (hA3 : hp_A w o1)
    (kt : a3 = none → wk_V w mJ26_balanceInsertion j 5 [(0, vR a0), (1, vR a1)] [] (hp_sI G o1 8 (0 : Int32)) r)
    (kf : ∀ o9, a3 = some o9 → wk_V w mJ26_balanceInsertion j 136 [(0, vR a0), (1, vR a1), (3, vR a3)] [] (hp_sI G o1 8 (0 : Int32)) r)
    : wk_V w mJ26_balanceInsertion j 127 [(0, vR a0), (1, vR a1), (2, vR a2), (3, vR a3)] [] G r := by
  refine wk_aload_n 2 dJ26_balanceInsertion_127 rfl rfl ?_
  refine wk_iconst (0 : Int32) dJ26_balanceInsertion_128 (by decide) ?_
  refine wk_e2 e1 ?_
  refine wk_putI 25 8 flJ26_93 rfl (Or.inl rfl) hk2 hA3 ⟨rfl, rfl⟩ dJ26_balanceInsertion_129 ?_
  refine wk_aload_n 3 dJ26_balanceInsertion_132 rfl rfl ?_
  exact wk_ifnull 5 dJ26_balanceInsertion_133 (by decide) (fun h => (wk_sub [(0, vR a0), (1, vR a1)] ⟨rfl, rfl, trivial⟩ (kt h))) (fun o9 h => (wk_sub [(0, vR a0), (1, vR a1), (3, vR a3)] ⟨rfl, rfl, rfl, trivial⟩ (kf o9 h)))
theorem blJ26_balanceInsertion_136 {w : WD} {j : JB} {r : Nat} {G : GH} {a0 : Option Nat} {a1 : Option Nat} {a3 : Option Nat} {o1 : Nat} {d' b' : Nat} {P : Option WV → GH → Prop} {PX : String → Nat → GH → Prop}
    (e1 : a3 = some o1)
    (hk2 : hp_kd G o1 = 25)
    (hA3 : hp_A w o1)
    (hC : wk_C w mJ26_rotateRight d' b' [vR a0, vR a3] (hp_sI G o1 8 (1 : Int32)) P PX)
    (hdp : d' + 1 ≤ j.1)
    (hb : b' ≤ r)
    (kr : ∀ v G', P v G' → wk_V w mJ26_balanceInsertion j 146 [(1, vR a1)] (v.toList ++ []) G' (r - b'))
    (kx : ∀ E q G', PX E q G' → wk_T w mJ26_balanceInsertion j 143 [(0, vR a0), (1, vR a1), (3, vR a3)] G' (r - b') E q)
    : wk_V w mJ26_balanceInsertion j 136 [(0, vR a0), (1, vR a1), (3, vR a3)] [] G r := by
  refine wk_aload_n 3 dJ26_balanceInsertion_136 rfl rfl ?_
  refine wk_iconst (1 : Int32) dJ26_balanceInsertion_137 (by decide) ?_
  refine wk_e2 e1 ?_
  refine wk_putI 25 8 flJ26_93 rfl (Or.inl rfl) hk2 hA3 ⟨rfl, rfl⟩ dJ26_balanceInsertion_138 ?_
  refine wk_aload_n 0 dJ26_balanceInsertion_141 rfl rfl ?_
  refine wk_aload_n 3 dJ26_balanceInsertion_142 rfl rfl ?_
  exact wk_callS hC rfl q1631 q1632 q149 q1633 mdJ26_rotateRight (Nat.le_of_ble_eq_true rfl) rfl rfl (Nat.le_of_ble_eq_true rfl) hdp hb dJ26_balanceInsertion_143 (fun v G' h => (wk_sub [(1, vR a1)] ⟨rfl, trivial⟩ (kr v G' h))) kx
theorem blJ26_balanceInsertion_146 {w : WD} {j : JB} {r : Nat} {G : GH} {a1 : Option Nat} {sa0 : Option Nat}
    (k : wk_V w mJ26_balanceInsertion j 5 [(0, vR sa0), (1, vR a1)] [] G r)
    : wk_V w mJ26_balanceInsertion j 146 [(1, vR a1)] [vR sa0] G r := by
  refine wk_astore_n 0 dJ26_balanceInsertion_146 rfl (Nat.le_of_ble_eq_true rfl) ?_
  exact wk_goto 5 dJ26_balanceInsertion_147 (by decide) k
theorem blJ26_balanceInsertion_150 {w : WD} {j : JB} {r : Nat} {G : GH} {a0 : Option Nat} {a1 : Option Nat} {a2 : Option Nat} {a3 : Option Nat} {a4 : Option Nat}
    (kt : a4 = none → wk_V w mJ26_balanceInsertion j 184 [(0, vR a0), (1, vR a1), (2, vR a2), (3, vR a3)] [] G r)
    (kf : ∀ o9, a4 = some o9 → wk_V w mJ26_balanceInsertion j 155 [(0, vR a0), (1, vR a1), (2, vR a2), (3, vR a3), (4, vR a4)] [] G r)
    : wk_V w mJ26_balanceInsertion j 150 [(0, vR a0), (1, vR a1), (2, vR a2), (3, vR a3), (4, vR a4)] [] G r := by
  refine wk_aload dJ26_balanceInsertion_150 rfl ?_
  exact wk_ifnull 184 dJ26_balanceInsertion_152 (by decide) (fun h => (wk_sub [(0, vR a0), (1, vR a1), (2, vR a2), (3, vR a3)] ⟨rfl, rfl, rfl, rfl, trivial⟩ (kt h))) (fun o9 h => (kf o9 h))
theorem blJ26_balanceInsertion_155 {w : WD} {j : JB} {r : Nat} {G : GH} {a0 : Option Nat} {a1 : Option Nat} {a2 : Option Nat} {a3 : Option Nat} {a4 : Option Nat} {o1 : Nat}
    (e1 : a4 = some o1)
    (hk2 : hp_kd G o1 = 25)
    (kt : (hp_i G o1 8) = 0 → wk_V w mJ26_balanceInsertion j 184 [(0, vR a0), (1, vR a1), (2, vR a2), (3, vR a3)] [] G r)
    (kf : ¬ ((hp_i G o1 8) = 0) → wk_V w mJ26_balanceInsertion j 163 [(0, vR a0), (2, vR a2), (3, vR a3), (4, vR a4)] [] G r)
    : wk_V w mJ26_balanceInsertion j 155 [(0, vR a0), (1, vR a1), (2, vR a2), (3, vR a3), (4, vR a4)] [] G r := by
  refine wk_aload dJ26_balanceInsertion_155 rfl ?_
  refine wk_e e1 ?_
  refine wk_getI 25 8 flJ26_93 rfl hk2 dJ26_balanceInsertion_157 ?_
  exact wk_if_eq 184 dJ26_balanceInsertion_160 (by decide) (fun h => (wk_sub [(0, vR a0), (1, vR a1), (2, vR a2), (3, vR a3)] ⟨rfl, rfl, rfl, rfl, trivial⟩ (kt h))) (fun h => (wk_sub [(0, vR a0), (2, vR a2), (3, vR a3), (4, vR a4)] ⟨rfl, rfl, rfl, rfl, trivial⟩ (kf h)))
theorem blJ26_balanceInsertion_163 {w : WD} {j : JB} {r : Nat} {G : GH} {a0 : Option Nat} {a2 : Option Nat} {a3 : Option Nat} {a4 : Option Nat} {o1 : Nat} {o4 : Nat}
    (e1 : a4 = some o1)
    (hk2 : hp_kd G o1 = 25)
    (hA3 : hp_A w o1)
    (e4 : a2 = some o4)
    (hk5 : hp_kd G o4 = 25)
    (hA6 : hp_A w o4)
    (k : wk_V w mJ26_balanceInsertion j 174 [(0, vR a0), (3, vR a3)] [] (hp_sI (hp_sI G o1 8 (0 : Int32)) o4 8 (0 : Int32)) r)
    : wk_V w mJ26_balanceInsertion j 163 [(0, vR a0), (2, vR a2), (3, vR a3), (4, vR a4)] [] G r := by
  refine wk_aload dJ26_balanceInsertion_163 rfl ?_
  refine wk_iconst (0 : Int32) dJ26_balanceInsertion_165 (by decide) ?_
  refine wk_e2 e1 ?_
  refine wk_putI 25 8 flJ26_93 rfl (Or.inl rfl) hk2 hA3 ⟨rfl, rfl⟩ dJ26_balanceInsertion_166 ?_
  refine wk_aload_n 2 dJ26_balanceInsertion_169 rfl rfl ?_
  refine wk_iconst (0 : Int32) dJ26_balanceInsertion_170 (by decide) ?_
  refine wk_e2 e4 ?_
  refine wk_putI 25 8 flJ26_93 rfl (Or.inl rfl) hk5 hA6 ⟨rfl, rfl⟩ dJ26_balanceInsertion_171 ?_
  exact (wk_sub [(0, vR a0), (3, vR a3)] ⟨rfl, rfl, trivial⟩ k)
theorem blJ26_balanceInsertion_174 {w : WD} {j : JB} {r : Nat} {G : GH} {a0 : Option Nat} {a3 : Option Nat} {o1 : Nat}
    (e1 : a3 = some o1)
    (hk2 : hp_kd G o1 = 25)
    (hA3 : hp_A w o1)
    (k : wk_V w mJ26_balanceInsertion j 5 [(0, vR a0), (1, vR a3)] [] (hp_sI G o1 8 (1 : Int32)) r)
    : wk_V w mJ26_balanceInsertion j 174 [(0, vR a0), (3, vR a3)] [] G r := by
  refine wk_aload_n 3 dJ26_balanceInsertion_174 rfl rfl ?_
  refine wk_iconst (1 : Int32) dJ26_balanceInsertion_175 (by decide) ?_
  refine wk_e2 e1 ?_
  refine wk_putI 25 8 flJ26_93 rfl (Or.inl rfl) hk2 hA3 ⟨rfl, rfl⟩ dJ26_balanceInsertion_176 ?_
  refine wk_aload_n 3 dJ26_balanceInsertion_179 rfl rfl ?_
  refine wk_astore_n 1 dJ26_balanceInsertion_180 rfl (Nat.le_of_ble_eq_true rfl) ?_
  exact wk_goto 5 dJ26_balanceInsertion_181 (by decide) (wk_sub [(0, vR a0), (1, vR a3)] ⟨rfl, rfl, trivial⟩ k)
theorem blJ26_balanceInsertion_184 {w : WD} {j : JB} {r : Nat} {G : GH} {a0 : Option Nat} {a1 : Option Nat} {a2 : Option Nat} {a3 : Option Nat} {o1 : Nat}
    (e1 : a2 = some o1)
    (hk2 : hp_kd G o1 = 25)
    (kt : ¬ (a1 = (hp_r G o1 5)) → wk_V w mJ26_balanceInsertion j 218 [(0, vR a0), (1, vR a1), (2, vR a2), (3, vR a3)] [] G r)
    (kf : a1 = (hp_r G o1 5) → wk_V w mJ26_balanceInsertion j 192 [(0, vR a0), (2, vR a2)] [] G r)
    : wk_V w mJ26_balanceInsertion j 184 [(0, vR a0), (1, vR a1), (2, vR a2), (3, vR a3)] [] G r := by
  refine wk_aload_n 1 dJ26_balanceInsertion_184 rfl rfl ?_
  refine wk_aload_n 2 dJ26_balanceInsertion_185 rfl rfl ?_
  refine wk_e e1 ?_
  refine wk_getR 25 5 flJ26_39 rfl hk2 dJ26_balanceInsertion_186 ?_
  exact wk_acmp_ne 218 dJ26_balanceInsertion_189 (by decide) (fun h => (kt h)) (fun h => (wk_sub [(0, vR a0), (2, vR a2)] ⟨rfl, rfl, trivial⟩ (kf h)))
theorem blJ26_balanceInsertion_192 {w : WD} {j : JB} {r : Nat} {G : GH} {a0 : Option Nat} {a2 : Option Nat} {d' b' : Nat} {P : Option WV → GH → Prop} {PX : String → Nat → GH → Prop}
    (hC : wk_C w mJ26_rotateRight d' b' [vR a0, vR a2] G P PX)
    (hdp : d' + 1 ≤ j.1)
    (hb : b' ≤ r)
    (kr : ∀ v G', P v G' → wk_V w mJ26_balanceInsertion j 199 [(1, vR a2)] (v.toList ++ []) G' (r - b'))
    (kx : ∀ E q G', PX E q G' → wk_T w mJ26_balanceInsertion j 196 [(0, vR a0), (1, vR a2), (2, vR a2)] G' (r - b') E q)
    : wk_V w mJ26_balanceInsertion j 192 [(0, vR a0), (2, vR a2)] [] G r := by
  refine wk_aload_n 0 dJ26_balanceInsertion_192 rfl rfl ?_
  refine wk_aload_n 2 dJ26_balanceInsertion_193 rfl rfl ?_
  refine wk_dup dJ26_balanceInsertion_194 rfl ?_
  refine wk_astore_n 1 dJ26_balanceInsertion_195 rfl (Nat.le_of_ble_eq_true rfl) ?_
  exact wk_callS hC rfl q1631 q1632 q149 q1633 mdJ26_rotateRight (Nat.le_of_ble_eq_true rfl) rfl rfl (Nat.le_of_ble_eq_true rfl) hdp hb dJ26_balanceInsertion_196 (fun v G' h => (wk_sub [(1, vR a2)] ⟨rfl, trivial⟩ (kr v G' h))) kx
theorem blJ26_balanceInsertion_199 {w : WD} {j : JB} {r : Nat} {G : GH} {a1 : Option Nat} {sa0 : Option Nat} {o1 : Nat}
    (e1 : a1 = some o1)
    (hk2 : hp_kd G o1 = 25)
    (kt : ∀ o9, (hp_r G o1 4) = some o9 → wk_V w mJ26_balanceInsertion j 213 [(0, vR sa0), (1, vR a1), (2, vR (hp_r G o1 4))] [] G r)
    (kf : (hp_r G o1 4) = none → wk_V w mJ26_balanceInsertion j 209 [(0, vR sa0), (1, vR a1), (2, vR (hp_r G o1 4))] [] G r)
    : wk_V w mJ26_balanceInsertion j 199 [(1, vR a1)] [vR sa0] G r := by
  refine wk_astore_n 0 dJ26_balanceInsertion_199 rfl (Nat.le_of_ble_eq_true rfl) ?_
  refine wk_aload_n 1 dJ26_balanceInsertion_200 rfl rfl ?_
  refine wk_e e1 ?_
  refine wk_getR 25 4 flJ26_9 rfl hk2 dJ26_balanceInsertion_201 ?_
  refine wk_dup dJ26_balanceInsertion_204 rfl ?_
  refine wk_astore_n 2 dJ26_balanceInsertion_205 rfl (Nat.le_of_ble_eq_true rfl) ?_
  exact wk_ifnonnull 213 dJ26_balanceInsertion_206 (by decide) (fun o9 h => (kt o9 h)) (fun h => (kf h))
theorem blJ26_balanceInsertion_209 {w : WD} {j : JB} {r : Nat} {G : GH} {a0 : Option Nat} {a1 : Option Nat} {a2 : Option Nat}
    (k : wk_V w mJ26_balanceInsertion j 217 [(0, vR a0), (1, vR a1), (2, vR a2)] [vR none] G r)
    : wk_V w mJ26_balanceInsertion j 209 [(0, vR a0), (1, vR a1), (2, vR a2)] [] G r := by
  refine wk_null dJ26_balanceInsertion_209 ?_
  exact wk_goto 217 dJ26_balanceInsertion_210 (by decide) k
theorem blJ26_balanceInsertion_213 {w : WD} {j : JB} {r : Nat} {G : GH} {a0 : Option Nat} {a1 : Option Nat} {a2 : Option Nat} {o1 : Nat}
    (e1 : a2 = some o1)
    (hk2 : hp_kd G o1 = 25)
    (k : wk_V w mJ26_balanceInsertion j 217 [(0, vR a0), (1, vR a1), (2, vR a2)] [vR (hp_r G o1 4)] G r)
    : wk_V w mJ26_balanceInsertion j 213 [(0, vR a0), (1, vR a1), (2, vR a2)] [] G r := by
  refine wk_aload_n 2 dJ26_balanceInsertion_213 rfl rfl ?_
  refine wk_e e1 ?_
  refine wk_getR 25 4 flJ26_9 rfl hk2 dJ26_balanceInsertion_214 ?_
  exact k
theorem blJ26_balanceInsertion_217 {w : WD} {j : JB} {r : Nat} {G : GH} {a0 : Option Nat} {a1 : Option Nat} {a2 : Option Nat} {sa0 : Option Nat}
    (k : wk_V w mJ26_balanceInsertion j 218 [(0, vR a0), (1, vR a1), (2, vR a2), (3, vR sa0)] [] G r)
    : wk_V w mJ26_balanceInsertion j 217 [(0, vR a0), (1, vR a1), (2, vR a2)] [vR sa0] G r := by
  refine wk_astore_n 3 dJ26_balanceInsertion_217 rfl (Nat.le_of_ble_eq_true rfl) ?_
  exact k
theorem blJ26_balanceInsertion_218 {w : WD} {j : JB} {r : Nat} {G : GH} {a0 : Option Nat} {a1 : Option Nat} {a2 : Option Nat} {a3 : Option Nat}
    (kt : a2 = none → wk_V w mJ26_balanceInsertion j 5 [(0, vR a0), (1, vR a1)] [] G r)
    (kf : ∀ o9, a2 = some o9 → wk_V w mJ26_balanceInsertion j 222 [(0, vR a0), (1, vR a1), (2, vR a2), (3, vR a3)] [] G r)
    : wk_V w mJ26_balanceInsertion j 218 [(0, vR a0), (1, vR a1), (2, vR a2), (3, vR a3)] [] G r := by
  refine wk_aload_n 2 dJ26_balanceInsertion_218 rfl rfl ?_
  exact wk_ifnull 5 dJ26_balanceInsertion_219 (by decide) (fun h => (wk_sub [(0, vR a0), (1, vR a1)] ⟨rfl, rfl, trivial⟩ (kt h))) (fun o9 h => (kf o9 h))
theorem blJ26_balanceInsertion_222 {w : WD} {j : JB} {r : Nat} {G : GH} {a0 : Option Nat} {a1 : Option Nat} {a2 : Option Nat} {a3 : Option Nat} {o1 : Nat}
    (e1 : a2 = some o1)
    (hk2 : hp_kd G o1 = 25)
    (hA3 : hp_A w o1)
    (kt : a3 = none → wk_V w mJ26_balanceInsertion j 5 [(0, vR a0), (1, vR a1)] [] (hp_sI G o1 8 (0 : Int32)) r)
    (kf : ∀ o9, a3 = some o9 → wk_V w mJ26_balanceInsertion j 231 [(0, vR a0), (1, vR a1), (3, vR a3)] [] (hp_sI G o1 8 (0 : Int32)) r)
    : wk_V w mJ26_balanceInsertion j 222 [(0, vR a0), (1, vR a1), (2, vR a2), (3, vR a3)] [] G r := by
  refine wk_aload_n 2 dJ26_balanceInsertion_222 rfl rfl ?_
  refine wk_iconst (0 : Int32) dJ26_balanceInsertion_223 (by decide) ?_
  refine wk_e2 e1 ?_
  refine wk_putI 25 8 flJ26_93 rfl (Or.inl rfl) hk2 hA3 ⟨rfl, rfl⟩ dJ26_balanceInsertion_224 ?_
  refine wk_aload_n 3 dJ26_balanceInsertion_227 rfl rfl ?_
  exact wk_ifnull 5 dJ26_balanceInsertion_228 (by decide) (fun h => (wk_sub [(0, vR a0), (1, vR a1)] ⟨rfl, rfl, trivial⟩ (kt h))) (fun o9 h => (wk_sub [(0, vR a0), (1, vR a1), (3, vR a3)] ⟨rfl, rfl, rfl, trivial⟩ (kf o9 h)))
theorem blJ26_balanceInsertion_231 {w : WD} {j : JB} {r : Nat} {G : GH} {a0 : Option Nat} {a1 : Option Nat} {a3 : Option Nat} {o1 : Nat} {d' b' : Nat} {P : Option WV → GH → Prop} {PX : String → Nat → GH → Prop}
    (e1 : a3 = some o1)
    (hk2 : hp_kd G o1 = 25)
    (hA3 : hp_A w o1)
    (hC : wk_C w mJ26_rotateLeft d' b' [vR a0, vR a3] (hp_sI G o1 8 (1 : Int32)) P PX)
    (hdp : d' + 1 ≤ j.1)
    (hb : b' ≤ r)
    (kr : ∀ v G', P v G' → wk_V w mJ26_balanceInsertion j 241 [(1, vR a1)] (v.toList ++ []) G' (r - b'))
    (kx : ∀ E q G', PX E q G' → wk_T w mJ26_balanceInsertion j 238 [(0, vR a0), (1, vR a1), (3, vR a3)] G' (r - b') E q)
    : wk_V w mJ26_balanceInsertion j 231 [(0, vR a0), (1, vR a1), (3, vR a3)] [] G r := by
  refine wk_aload_n 3 dJ26_balanceInsertion_231 rfl rfl ?_
  refine wk_iconst (1 : Int32) dJ26_balanceInsertion_232 (by decide) ?_
  refine wk_e2 e1 ?_
  refine wk_putI 25 8 flJ26_93 rfl (Or.inl rfl) hk2 hA3 ⟨rfl, rfl⟩ dJ26_balanceInsertion_233 ?_
  refine wk_aload_n 0 dJ26_balanceInsertion_236 rfl rfl ?_
  refine wk_aload_n 3 dJ26_balanceInsertion_237 rfl rfl ?_
  exact wk_callS hC rfl q1628 q1629 q149 q1630 mdJ26_rotateLeft (Nat.le_of_ble_eq_true rfl) rfl rfl (Nat.le_of_ble_eq_true rfl) hdp hb dJ26_balanceInsertion_238 (fun v G' h => (wk_sub [(1, vR a1)] ⟨rfl, trivial⟩ (kr v G' h))) kx
theorem blJ26_balanceInsertion_241 {w : WD} {j : JB} {r : Nat} {G : GH} {a1 : Option Nat} {sa0 : Option Nat}
    (k : wk_V w mJ26_balanceInsertion j 5 [(0, vR sa0), (1, vR a1)] [] G r)
    : wk_V w mJ26_balanceInsertion j 241 [(1, vR a1)] [vR sa0] G r := by
  refine wk_astore_n 0 dJ26_balanceInsertion_241 rfl (Nat.le_of_ble_eq_true rfl) ?_
  exact wk_goto 5 dJ26_balanceInsertion_242 (by decide) k
/-! java/util/HashMap$TreeNode.find(ILjava/lang/Object;Ljava/lang/Class;)Ljava/util/HashMap$TreeNode; -/
theorem blJ26_find_0 {w : WD} {j : JB} {r : Nat} {G : GH} {a0 : Nat} {x1 : Int32} {a2 : Option Nat} {a3 : Option Nat}
    (k : wk_V w mJ26_find j 3 [(1, vI x1), (2, vR a2), (3, vR a3), (4, vR (some a0))] [] G r)
    : wk_V w mJ26_find j 0 [(0, vR (some a0)), (1, vI x1), (2, vR a2), (3, vR a3)] [] G r := by
  refine wk_aload_n 0 dJ26_find_0 rfl rfl ?_
  refine wk_astore dJ26_find_1 (Nat.le_of_ble_eq_true rfl) ?_
  exact (wk_sub [(1, vI x1), (2, vR a2), (3, vR a3), (4, vR (some a0))] ⟨rfl, rfl, rfl, rfl, trivial⟩ k)
theorem blJ26_find_3 {w : WD} {j : JB} {r : Nat} {G : GH} {x1 : Int32} {a2 : Option Nat} {a3 : Option Nat} {a4 : Option Nat} {o1 : Nat}
    (e1 : a4 = some o1)
    (hk2 : hp_kd G o1 = 25)
    (kt : (hp_i G o1 0) ≤ x1 → wk_V w mJ26_find j 36 [(1, vI x1), (2, vR a2), (3, vR a3), (4, vR a4), (5, vI (hp_i G o1 0)), (8, vR (hp_r G o1 5)), (9, vR (hp_r G o1 6))] [] G r)
    (kf : ¬ ((hp_i G o1 0) ≤ x1) → wk_V w mJ26_find j 29 [(1, vI x1), (2, vR a2), (3, vR a3), (8, vR (hp_r G o1 5))] [] G r)
    : wk_V w mJ26_find j 3 [(1, vI x1), (2, vR a2), (3, vR a3), (4, vR a4)] [] G r := by
  refine wk_aload dJ26_find_3 rfl ?_
  refine wk_e e1 ?_
  refine wk_getR 25 5 flJ26_39 rfl hk2 dJ26_find_5 ?_
  refine wk_astore dJ26_find_8 (Nat.le_of_ble_eq_true rfl) ?_
  refine wk_aload dJ26_find_10 rfl ?_
  refine wk_e e1 ?_
  refine wk_getR 25 6 flJ26_42 rfl hk2 dJ26_find_12 ?_
  refine wk_astore dJ26_find_15 (Nat.le_of_ble_eq_true rfl) ?_
  refine wk_aload dJ26_find_17 rfl ?_
  refine wk_e e1 ?_
  refine wk_getI 25 0 flJ26_15 rfl hk2 dJ26_find_19 ?_
  refine wk_dup dJ26_find_22 rfl ?_
  refine wk_istore dJ26_find_23 (Nat.le_of_ble_eq_true rfl) ?_
  refine wk_iload_n 1 dJ26_find_25 rfl rfl ?_
  exact wk_icmp_le 36 dJ26_find_26 (by decide) (fun h => (kt h)) (fun h => (wk_sub [(1, vI x1), (2, vR a2), (3, vR a3), (8, vR (hp_r G o1 5))] ⟨rfl, rfl, rfl, rfl, trivial⟩ (kf h)))
theorem blJ26_find_29 {w : WD} {j : JB} {r : Nat} {G : GH} {x1 : Int32} {a2 : Option Nat} {a3 : Option Nat} {a8 : Option Nat}
    (k : wk_V w mJ26_find j 165 [(1, vI x1), (2, vR a2), (3, vR a3), (4, vR a8)] [] G r)
    : wk_V w mJ26_find j 29 [(1, vI x1), (2, vR a2), (3, vR a3), (8, vR a8)] [] G r := by
  refine wk_aload dJ26_find_29 rfl ?_
  refine wk_astore dJ26_find_31 (Nat.le_of_ble_eq_true rfl) ?_
  exact wk_goto 165 dJ26_find_33 (by decide) (wk_sub [(1, vI x1), (2, vR a2), (3, vR a3), (4, vR a8)] ⟨rfl, rfl, rfl, rfl, trivial⟩ k)
theorem blJ26_find_36 {w : WD} {j : JB} {r : Nat} {G : GH} {x1 : Int32} {a2 : Option Nat} {a3 : Option Nat} {a4 : Option Nat} {x5 : Int32} {a8 : Option Nat} {a9 : Option Nat}
    (kt : x1 ≤ x5 → wk_V w mJ26_find j 49 [(1, vI x1), (2, vR a2), (3, vR a3), (4, vR a4), (8, vR a8), (9, vR a9)] [] G r)
    (kf : ¬ (x1 ≤ x5) → wk_V w mJ26_find j 42 [(1, vI x1), (2, vR a2), (3, vR a3), (9, vR a9)] [] G r)
    : wk_V w mJ26_find j 36 [(1, vI x1), (2, vR a2), (3, vR a3), (4, vR a4), (5, vI x5), (8, vR a8), (9, vR a9)] [] G r := by
  refine wk_iload dJ26_find_36 rfl ?_
  refine wk_iload_n 1 dJ26_find_38 rfl rfl ?_
  exact wk_icmp_ge 49 dJ26_find_39 (by decide) (fun h => (wk_sub [(1, vI x1), (2, vR a2), (3, vR a3), (4, vR a4), (8, vR a8), (9, vR a9)] ⟨rfl, rfl, rfl, rfl, rfl, rfl, trivial⟩ (kt h))) (fun h => (wk_sub [(1, vI x1), (2, vR a2), (3, vR a3), (9, vR a9)] ⟨rfl, rfl, rfl, rfl, trivial⟩ (kf h)))
theorem blJ26_find_42 {w : WD} {j : JB} {r : Nat} {G : GH} {x1 : Int32} {a2 : Option Nat} {a3 : Option Nat} {a9 : Option Nat}
    (k : wk_V w mJ26_find j 165 [(1, vI x1), (2, vR a2), (3, vR a3), (4, vR a9)] [] G r)
    : wk_V w mJ26_find j 42 [(1, vI x1), (2, vR a2), (3, vR a3), (9, vR a9)] [] G r := by
  refine wk_aload dJ26_find_42 rfl ?_
  refine wk_astore dJ26_find_44 (Nat.le_of_ble_eq_true rfl) ?_
  exact wk_goto 165 dJ26_find_46 (by decide) (wk_sub [(1, vI x1), (2, vR a2), (3, vR a3), (4, vR a9)] ⟨rfl, rfl, rfl, rfl, trivial⟩ k)
theorem blJ26_find_49 {w : WD} {j : JB} {r : Nat} {G : GH} {x1 : Int32} {a2 : Option Nat} {a3 : Option Nat} {a4 : Option Nat} {a8 : Option Nat} {a9 : Option Nat} {o1 : Nat}
    (e1 : a4 = some o1)
    (hk2 : hp_kd G o1 = 25)
    (kt : (hp_r G o1 1) = a2 → wk_V w mJ26_find j 74 [(4, vR a4)] [] G r)
    (kf : ¬ ((hp_r G o1 1) = a2) → wk_V w mJ26_find j 61 [(1, vI x1), (2, vR a2), (3, vR a3), (4, vR a4), (7, vR (hp_r G o1 1)), (8, vR a8), (9, vR a9)] [] G r)
    : wk_V w mJ26_find j 49 [(1, vI x1), (2, vR a2), (3, vR a3), (4, vR a4), (8, vR a8), (9, vR a9)] [] G r := by
  refine wk_aload dJ26_find_49 rfl ?_
  refine wk_e e1 ?_
  refine wk_getR 25 1 flJ26_45 rfl hk2 dJ26_find_51 ?_
  refine wk_dup dJ26_find_54 rfl ?_
  refine wk_astore dJ26_find_55 (Nat.le_of_ble_eq_true rfl) ?_
  refine wk_aload_n 2 dJ26_find_57 rfl rfl ?_
  exact wk_acmp_eq 74 dJ26_find_58 (by decide) (fun h => (wk_sub [(4, vR a4)] ⟨rfl, trivial⟩ (kt h))) (fun h => (kf h))
theorem blJ26_find_61 {w : WD} {j : JB} {r : Nat} {G : GH} {x1 : Int32} {a2 : Option Nat} {a3 : Option Nat} {a4 : Option Nat} {a7 : Option Nat} {a8 : Option Nat} {a9 : Option Nat}
    (kt : a2 = none → wk_V w mJ26_find j 77 [(1, vI x1), (2, vR a2), (3, vR a3), (7, vR a7), (8, vR a8), (9, vR a9)] [] G r)
    (kf : ∀ o9, a2 = some o9 → wk_V w mJ26_find j 65 [(1, vI x1), (2, vR a2), (3, vR a3), (4, vR a4), (7, vR a7), (8, vR a8), (9, vR a9)] [] G r)
    : wk_V w mJ26_find j 61 [(1, vI x1), (2, vR a2), (3, vR a3), (4, vR a4), (7, vR a7), (8, vR a8), (9, vR a9)] [] G r := by
  refine wk_aload_n 2 dJ26_find_61 rfl rfl ?_
  exact wk_ifnull 77 dJ26_find_62 (by decide) (fun h => (wk_sub [(1, vI x1), (2, vR a2), (3, vR a3), (7, vR a7), (8, vR a8), (9, vR a9)] ⟨rfl, rfl, rfl, rfl, rfl, rfl, trivial⟩ (kt h))) (fun o9 h => (kf o9 h))
theorem blJ26_find_65_k2 {w : WD} {j : JB} {r : Nat} {G : GH} {x1 : Int32} {a2 : Option Nat} {a3 : Option Nat} {a4 : Option Nat} {a7 : Option Nat} {a8 : Option Nat} {a9 : Option Nat} {o1 : Nat} {d' b' : Nat} {P : Option WV → GH → Prop} {PX : String → Nat → GH → Prop}
    (e1 : a2 = some o1)
    (hkr : hp_kd G o1 = 2)
    (hC : wk_C w mJ28_equals d' b' [vR (some o1), vR a7] G P PX)
    (hdp : d' + 1 ≤ j.1)
    (hb : b' ≤ r)
    (kr : ∀ v G', P v G' → wk_V w mJ26_find j 71 [(1, vI x1), (2, vR a2), (3, vR a3), (4, vR a4), (7, vR a7), (8, vR a8), (9, vR a9)] (v.toList ++ []) G' (r - b'))
    (kx : ∀ E q G', PX E q G' → wk_T w mJ26_find j 68 [(1, vI x1), (2, vR a2), (3, vR a3), (4, vR a4), (7, vR a7), (8, vR a8), (9, vR a9)] G' (r - b') E q)
    : wk_V w mJ26_find j 65 [(1, vI x1), (2, vR a2), (3, vR a3), (4, vR a4), (7, vR a7), (8, vR a8), (9, vR a9)] [] G r := by
  refine wk_aload_n 2 dJ26_find_65 rfl rfl ?_
  refine wk_aload dJ26_find_66 rfl ?_
  refine wk_eAt 1 e1 rfl ?_
  exact wk_callU (n := 1) (x := ⟨"java/lang/Object", "equals", "(Ljava/lang/Object;)Z"⟩) "java/lang/Object" hC rfl (Or.inl (by decide +kernel)) q1095 q1049 q1048 (by show Cond.selects (hp_C (hp_kd G o1)) _ _ ∈ lw_all; rw [hkr]; exact q1050) q3225 q1081 (by decide +kernel) (Nat.le_of_ble_eq_true rfl) ⟨by show hp_kd G o1 ≠ 0; rw [hkr]; decide, by show hp_kd G o1 < 28; rw [hkr]; decide⟩ rfl rfl (Nat.le_of_ble_eq_true rfl) hdp hb dJ26_find_68 kr kx
theorem blJ26_find_65_k5 {w : WD} {j : JB} {r : Nat} {G : GH} {x1 : Int32} {a2 : Option Nat} {a3 : Option Nat} {a4 : Option Nat} {a7 : Option Nat} {a8 : Option Nat} {a9 : Option Nat} {o1 : Nat} {d' b' : Nat} {P : Option WV → GH → Prop} {PX : String → Nat → GH → Prop}
    (e1 : a2 = some o1)
    (hkr : hp_kd G o1 = 5)
    (hC : wk_C w mJ28_equals d' b' [vR (some o1), vR a7] G P PX)
    (hdp : d' + 1 ≤ j.1)
    (hb : b' ≤ r)
    (kr : ∀ v G', P v G' → wk_V w mJ26_find j 71 [(1, vI x1), (2, vR a2), (3, vR a3), (4, vR a4), (7, vR a7), (8, vR a8), (9, vR a9)] (v.toList ++ []) G' (r - b'))
    (kx : ∀ E q G', PX E q G' → wk_T w mJ26_find j 68 [(1, vI x1), (2, vR a2), (3, vR a3), (4, vR a4), (7, vR a7), (8, vR a8), (9, vR a9)] G' (r - b') E q)
    : wk_V w mJ26_find j 65 [(1, vI x1), (2, vR a2), (3, vR a3), (4, vR a4), (7, vR a7), (8, vR a8), (9, vR a9)] [] G r := by
  refine wk_aload_n 2 dJ26_find_65 rfl rfl ?_
  refine wk_aload dJ26_find_66 rfl ?_
  refine wk_eAt 1 e1 rfl ?_
  exact wk_callU (n := 1) (x := ⟨"java/lang/Object", "equals", "(Ljava/lang/Object;)Z"⟩) "java/lang/Object" hC rfl (Or.inl (by decide +kernel)) q1095 q1049 q1048 (by show Cond.selects (hp_C (hp_kd G o1)) _ _ ∈ lw_all; rw [hkr]; exact q1051) q3225 q1081 (by decide +kernel) (Nat.le_of_ble_eq_true rfl) ⟨by show hp_kd G o1 ≠ 0; rw [hkr]; decide, by show hp_kd G o1 < 28; rw [hkr]; decide⟩ rfl rfl (Nat.le_of_ble_eq_true rfl) hdp hb dJ26_find_68 kr kx
theorem blJ26_find_65_k18 {w : WD} {j : JB} {r : Nat} {G : GH} {x1 : Int32} {a2 : Option Nat} {a3 : Option Nat} {a4 : Option Nat} {a7 : Option Nat} {a8 : Option Nat} {a9 : Option Nat} {o1 : Nat} {d' b' : Nat} {P : Option WV → GH → Prop} {PX : String → Nat → GH → Prop}
    (e1 : a2 = some o1)
    (hkr : hp_kd G o1 = 18)
    (hC : wk_C w mJ28_equals d' b' [vR (some o1), vR a7] G P PX)
    (hdp : d' + 1 ≤ j.1)
    (hb : b' ≤ r)
    (kr : ∀ v G', P v G' → wk_V w mJ26_find j 71 [(1, vI x1), (2, vR a2), (3, vR a3), (4, vR a4), (7, vR a7), (8, vR a8), (9, vR a9)] (v.toList ++ []) G' (r - b'))
    (kx : ∀ E q G', PX E q G' → wk_T w mJ26_find j 68 [(1, vI x1), (2, vR a2), (3, vR a3), (4, vR a4), (7, vR a7), (8, vR a8), (9, vR a9)] G' (r - b') E q)
    : wk_V w mJ26_find j 65 [(1, vI x1), (2, vR a2), (3, vR a3), (4, vR a4), (7, vR a7), (8, vR a8), (9, vR a9)] [] G r := by
  refine wk_aload_n 2 dJ26_find_65 rfl rfl ?_
  refine wk_aload dJ26_find_66 rfl ?_
  refine wk_eAt 1 e1 rfl ?_
  exact wk_callU (n := 1) (x := ⟨"java/lang/Object", "equals", "(Ljava/lang/Object;)Z"⟩) "java/lang/Object" hC rfl (Or.inl (by decide +kernel)) q1095 q1049 q1048 (by show Cond.selects (hp_C (hp_kd G o1)) _ _ ∈ lw_all; rw [hkr]; exact q1052) q3225 q1081 (by decide +kernel) (Nat.le_of_ble_eq_true rfl) ⟨by show hp_kd G o1 ≠ 0; rw [hkr]; decide, by show hp_kd G o1 < 28; rw [hkr]; decide⟩ rfl rfl (Nat.le_of_ble_eq_true rfl) hdp hb dJ26_find_68 kr kx
theorem blJ26_find_65_k21 {w : WD} {j : JB} {r : Nat} {G : GH} {x1 : Int32} {a2 : Option Nat} {a3 : Option Nat} {a4 : Option Nat} {a7 : Option Nat} {a8 : Option Nat} {a9 : Option Nat} {o1 : Nat} {d' b' : Nat} {P : Option WV → GH → Prop} {PX : String → Nat → GH → Prop}
    (e1 : a2 = some o1)
    (hkr : hp_kd G o1 = 21)
    (hC : wk_C w mJ28_equals d' b' [vR (some o1), vR a7] G P PX)
    (hdp : d' + 1 ≤ j.1)
    (hb : b' ≤ r)
    (kr : ∀ v G', P v G' → wk_V w mJ26_find j 71 [(1, vI x1), (2, vR a2), (3, vR a3), (4, vR a4), (7, vR a7), (8, vR a8), (9, vR a9)] (v.toList ++ []) G' (r - b'))
    (kx : ∀ E q G', PX E q G' → wk_T w mJ26_find j 68 [(1, vI x1), (2, vR a2), (3, vR a3), (4, vR a4), (7, vR a7), (8, vR a8), (9, vR a9)] G' (r - b') E q)
    : wk_V w mJ26_find j 65 [(1, vI x1), (2, vR a2), (3, vR a3), (4, vR a4), (7, vR a7), (8, vR a8), (9, vR a9)] [] G r := by
  refine wk_aload_n 2 dJ26_find_65 rfl rfl ?_
  refine wk_aload dJ26_find_66 rfl ?_
  refine wk_eAt 1 e1 rfl ?_
  exact wk_callU (n := 1) (x := ⟨"java/lang/Object", "equals", "(Ljava/lang/Object;)Z"⟩) "java/lang/Object" hC rfl (Or.inl (by decide +kernel)) q1095 q1049 q1048 (by show Cond.selects (hp_C (hp_kd G o1)) _ _ ∈ lw_all; rw [hkr]; exact q1053) q3225 q1081 (by decide +kernel) (Nat.le_of_ble_eq_true rfl) ⟨by show hp_kd G o1 ≠ 0; rw [hkr]; decide, by show hp_kd G o1 < 28; rw [hkr]; decide⟩ rfl rfl (Nat.le_of_ble_eq_true rfl) hdp hb dJ26_find_68 kr kx
theorem blJ26_find_65_k16 {w : WD} {j : JB} {r : Nat} {G : GH} {x1 : Int32} {a2 : Option Nat} {a3 : Option Nat} {a4 : Option Nat} {a7 : Option Nat} {a8 : Option Nat} {a9 : Option Nat} {o1 : Nat} {d' b' : Nat} {P : Option WV → GH → Prop} {PX : String → Nat → GH → Prop}
    (e1 : a2 = some o1)
    (hkr : hp_kd G o1 = 16)
    (hC : wk_C w mJ28_equals d' b' [vR (some o1), vR a7] G P PX)
    (hdp : d' + 1 ≤ j.1)
    (hb : b' ≤ r)
    (kr : ∀ v G', P v G' → wk_V w mJ26_find j 71 [(1, vI x1), (2, vR a2), (3, vR a3), (4, vR a4), (7, vR a7), (8, vR a8), (9, vR a9)] (v.toList ++ []) G' (r - b'))
    (kx : ∀ E q G', PX E q G' → wk_T w mJ26_find j 68 [(1, vI x1), (2, vR a2), (3, vR a3), (4, vR a4), (7, vR a7), (8, vR a8), (9, vR a9)] G' (r - b') E q)
    : wk_V w mJ26_find j 65 [(1, vI x1), (2, vR a2), (3, vR a3), (4, vR a4), (7, vR a7), (8, vR a8), (9, vR a9)] [] G r := by
  refine wk_aload_n 2 dJ26_find_65 rfl rfl ?_
  refine wk_aload dJ26_find_66 rfl ?_
  refine wk_eAt 1 e1 rfl ?_
  exact wk_callU (n := 1) (x := ⟨"java/lang/Object", "equals", "(Ljava/lang/Object;)Z"⟩) "java/lang/Object" hC rfl (Or.inl (by decide +kernel)) q1095 q1049 q1048 (by show Cond.selects (hp_C (hp_kd G o1)) _ _ ∈ lw_all; rw [hkr]; exact q1054) q3225 q1081 (by decide +kernel) (Nat.le_of_ble_eq_true rfl) ⟨by show hp_kd G o1 ≠ 0; rw [hkr]; decide, by show hp_kd G o1 < 28; rw [hkr]; decide⟩ rfl rfl (Nat.le_of_ble_eq_true rfl) hdp hb dJ26_find_68 kr kx
theorem blJ26_find_65_k13 {w : WD} {j : JB} {r : Nat} {G : GH} {x1 : Int32} {a2 : Option Nat} {a3 : Option Nat} {a4 : Option Nat} {a7 : Option Nat} {a8 : Option Nat} {a9 : Option Nat} {o1 : Nat} {d' b' : Nat} {P : Option WV → GH → Prop} {PX : String → Nat → GH → Prop}
    (e1 : a2 = some o1)
    (hkr : hp_kd G o1 = 13)
    (hC : wk_C w mJ28_equals d' b' [vR (some o1), vR a7] G P PX)
    (hdp : d' + 1 ≤ j.1)
    (hb : b' ≤ r)
    (kr : ∀ v G', P v G' → wk_V w mJ26_find j 71 [(1, vI x1), (2, vR a2), (3, vR a3), (4, vR a4), (7, vR a7), (8, vR a8), (9, vR a9)] (v.toList ++ []) G' (r - b'))
    (kx : ∀ E q G', PX E q G' → wk_T w mJ26_find j 68 [(1, vI x1), (2, vR a2), (3, vR a3), (4, vR a4), (7, vR a7), (8, vR a8), (9, vR a9)] G' (r - b') E q)
    : wk_V w mJ26_find j 65 [(1, vI x1), (2, vR a2), (3, vR a3), (4, vR a4), (7, vR a7), (8, vR a8), (9, vR a9)] [] G r := by
  refine wk_aload_n 2 dJ26_find_65 rfl rfl ?_
  refine wk_aload dJ26_find_66 rfl ?_
  refine wk_eAt 1 e1 rfl ?_
  exact wk_callU (n := 1) (x := ⟨"java/lang/Object", "equals", "(Ljava/lang/Object;)Z"⟩) "java/lang/Object" hC rfl (Or.inl (by decide +kernel)) q1095 q1049 q1048 (by show Cond.selects (hp_C (hp_kd G o1)) _ _ ∈ lw_all; rw [hkr]; exact q1055) q3225 q1081 (by decide +kernel) (Nat.le_of_ble_eq_true rfl) ⟨by show hp_kd G o1 ≠ 0; rw [hkr]; decide, by show hp_kd G o1 < 28; rw [hkr]; decide⟩ rfl rfl (Nat.le_of_ble_eq_true rfl) hdp hb dJ26_find_68 kr kx
theorem blJ26_find_65_k20 {w : WD} {j : JB} {r : Nat} {G : GH} {x1 : Int32} {a2 : Option Nat} {a3 : Option Nat} {a4 : Option Nat} {a7 : Option Nat} {a8 : Option Nat} {a9 : Option Nat} {o1 : Nat} {d' b' : Nat} {P : Option WV → GH → Prop} {PX : String → Nat → GH → Prop}
    (e1 : a2 = some o1)
    (hkr : hp_kd G o1 = 20)
    (hC : wk_C w mJ28_equals d' b' [vR (some o1), vR a7] G P PX)
    (hdp : d' + 1 ≤ j.1)
    (hb : b' ≤ r)
    (kr : ∀ v G', P v G' → wk_V w mJ26_find j 71 [(1, vI x1), (2, vR a2), (3, vR a3), (4, vR a4), (7, vR a7), (8, vR a8), (9, vR a9)] (v.toList ++ []) G' (r - b'))
    (kx : ∀ E q G', PX E q G' → wk_T w mJ26_find j 68 [(1, vI x1), (2, vR a2), (3, vR a3), (4, vR a4), (7, vR a7), (8, vR a8), (9, vR a9)] G' (r - b') E q)
    : wk_V w mJ26_find j 65 [(1, vI x1), (2, vR a2), (3, vR a3), (4, vR a4), (7, vR a7), (8, vR a8), (9, vR a9)] [] G r := by
  refine wk_aload_n 2 dJ26_find_65 rfl rfl ?_
  refine wk_aload dJ26_find_66 rfl ?_
  refine wk_eAt 1 e1 rfl ?_
  exact wk_callU (n := 1) (x := ⟨"java/lang/Object", "equals", "(Ljava/lang/Object;)Z"⟩) "java/lang/Object" hC rfl (Or.inl (by decide +kernel)) q1095 q1049 q1048 (by show Cond.selects (hp_C (hp_kd G o1)) _ _ ∈ lw_all; rw [hkr]; exact q1056) q3225 q1081 (by decide +kernel) (Nat.le_of_ble_eq_true rfl) ⟨by show hp_kd G o1 ≠ 0; rw [hkr]; decide, by show hp_kd G o1 < 28; rw [hkr]; decide⟩ rfl rfl (Nat.le_of_ble_eq_true rfl) hdp hb dJ26_find_68 kr kx
theorem blJ26_find_65_k7 {w : WD} {j : JB} {r : Nat} {G : GH} {x1 : Int32} {a2 : Option Nat} {a3 : Option Nat} {a4 : Option Nat} {a7 : Option Nat} {a8 : Option Nat} {a9 : Option Nat} {o1 : Nat} {d' b' : Nat} {P : Option WV → GH → Prop} {PX : String → Nat → GH → Prop}
    (e1 : a2 = some o1)
    (hkr : hp_kd G o1 = 7)
    (hC : wk_C w mJ28_equals d' b' [vR (some o1), vR a7] G P PX)
    (hdp : d' + 1 ≤ j.1)
    (hb : b' ≤ r)
    (kr : ∀ v G', P v G' → wk_V w mJ26_find j 71 [(1, vI x1), (2, vR a2), (3, vR a3), (4, vR a4), (7, vR a7), (8, vR a8), (9, vR a9)] (v.toList ++ []) G' (r - b'))
    (kx : ∀ E q G', PX E q G' → wk_T w mJ26_find j 68 [(1, vI x1), (2, vR a2), (3, vR a3), (4, vR a4), (7, vR a7), (8, vR a8), (9, vR a9)] G' (r - b') E q)
    : wk_V w mJ26_find j 65 [(1, vI x1), (2, vR a2), (3, vR a3), (4, vR a4), (7, vR a7), (8, vR a8), (9, vR a9)] [] G r := by
  refine wk_aload_n 2 dJ26_find_65 rfl rfl ?_
  refine wk_aload dJ26_find_66 rfl ?_
  refine wk_eAt 1 e1 rfl ?_
  exact wk_callU (n := 1) (x := ⟨"java/lang/Object", "equals", "(Ljava/lang/Object;)Z"⟩) "java/lang/Object" hC rfl (Or.inl (by decide +kernel)) q1095 q1049 q1048 (by show Cond.selects (hp_C (hp_kd G o1)) _ _ ∈ lw_all; rw [hkr]; exact q1057) q3225 q1081 (by decide +kernel) (Nat.le_of_ble_eq_true rfl) ⟨by show hp_kd G o1 ≠ 0; rw [hkr]; decide, by show hp_kd G o1 < 28; rw [hkr]; decide⟩ rfl rfl (Nat.le_of_ble_eq_true rfl) hdp hb dJ26_find_68 kr kx
theorem blJ26_find_65_k17 {w : WD} {j : JB} {r : Nat} {G : GH} {x1 : Int32} {a2 : Option Nat} {a3 : Option Nat} {a4 : Option Nat} {a7 : Option Nat} {a8 : Option Nat} {a9 : Option Nat} {o1 : Nat} {d' b' : Nat} {P : Option WV → GH → Prop} {PX : String → Nat → GH → Prop}
    (e1 : a2 = some o1)
    (hkr : hp_kd G o1 = 17)
    (hC : wk_C w mJ28_equals d' b' [vR (some o1), vR a7] G P PX)
    (hdp : d' + 1 ≤ j.1)
    (hb : b' ≤ r)
    (kr : ∀ v G', P v G' → wk_V w mJ26_find j 71 [(1, vI x1), (2, vR a2), (3, vR a3), (4, vR a4), (7, vR a7), (8, vR a8), (9, vR a9)] (v.toList ++ []) G' (r - b'))
    (kx : ∀ E q G', PX E q G' → wk_T w mJ26_find j 68 [(1, vI x1), (2, vR a2), (3, vR a3), (4, vR a4), (7, vR a7), (8, vR a8), (9, vR a9)] G' (r - b') E q)
    : wk_V w mJ26_find j 65 [(1, vI x1), (2, vR a2), (3, vR a3), (4, vR a4), (7, vR a7), (8, vR a8), (9, vR a9)] [] G r := by
  refine wk_aload_n 2 dJ26_find_65 rfl rfl ?_
  refine wk_aload dJ26_find_66 rfl ?_
  refine wk_eAt 1 e1 rfl ?_
  exact wk_callU (n := 1) (x := ⟨"java/lang/Object", "equals", "(Ljava/lang/Object;)Z"⟩) "java/lang/Object" hC rfl (Or.inl (by decide +kernel)) q1095 q1049 q1048 (by show Cond.selects (hp_C (hp_kd G o1)) _ _ ∈ lw_all; rw [hkr]; exact q1058) q3225 q1081 (by decide +kernel) (Nat.le_of_ble_eq_true rfl) ⟨by show hp_kd G o1 ≠ 0; rw [hkr]; decide, by show hp_kd G o1 < 28; rw [hkr]; decide⟩ rfl rfl (Nat.le_of_ble_eq_true rfl) hdp hb dJ26_find_68 kr kx
theorem blJ26_find_65_k9 {w : WD} {j : JB} {r : Nat} {G : GH} {x1 : Int32} {a2 : Option Nat} {a3 : Option Nat} {a4 : Option Nat} {a7 : Option Nat} {a8 : Option Nat} {a9 : Option Nat} {o1 : Nat} {d' b' : Nat} {P : Option WV → GH → Prop} {PX : String → Nat → GH → Prop}
    (e1 : a2 = some o1)
    (hkr : hp_kd G o1 = 9)
    (hC : wk_C w mJ28_equals d' b' [vR (some o1), vR a7] G P PX)
    (hdp : d' + 1 ≤ j.1)
    (hb : b' ≤ r)
    (kr : ∀ v G', P v G' → wk_V w mJ26_find j 71 [(1, vI x1), (2, vR a2), (3, vR a3), (4, vR a4), (7, vR a7), (8, vR a8), (9, vR a9)] (v.toList ++ []) G' (r - b'))
    (kx : ∀ E q G', PX E q G' → wk_T w mJ26_find j 68 [(1, vI x1), (2, vR a2), (3, vR a3), (4, vR a4), (7, vR a7), (8, vR a8), (9, vR a9)] G' (r - b') E q)
    : wk_V w mJ26_find j 65 [(1, vI x1), (2, vR a2), (3, vR a3), (4, vR a4), (7, vR a7), (8, vR a8), (9, vR a9)] [] G r := by
  refine wk_aload_n 2 dJ26_find_65 rfl rfl ?_
  refine wk_aload dJ26_find_66 rfl ?_
  refine wk_eAt 1 e1 rfl ?_
  exact wk_callU (n := 1) (x := ⟨"java/lang/Object", "equals", "(Ljava/lang/Object;)Z"⟩) "java/lang/Object" hC rfl (Or.inl (by decide +kernel)) q1095 q1049 q1048 (by show Cond.selects (hp_C (hp_kd G o1)) _ _ ∈ lw_all; rw [hkr]; exact q1059) q3225 q1081 (by decide +kernel) (Nat.le_of_ble_eq_true rfl) ⟨by show hp_kd G o1 ≠ 0; rw [hkr]; decide, by show hp_kd G o1 < 28; rw [hkr]; decide⟩ rfl rfl (Nat.le_of_ble_eq_true rfl) hdp hb dJ26_find_68 kr kx
theorem blJ26_find_65_k11 {w : WD} {j : JB} {r : Nat} {G : GH} {x1 : Int32} {a2 : Option Nat} {a3 : Option Nat} {a4 : Option Nat} {a7 : Option Nat} {a8 : Option Nat} {a9 : Option Nat} {o1 : Nat} {d' b' : Nat} {P : Option WV → GH → Prop} {PX : String → Nat → GH → Prop}
    (e1 : a2 = some o1)
    (hkr : hp_kd G o1 = 11)
    (hC : wk_C w mJ28_equals d' b' [vR (some o1), vR a7] G P PX)
    (hdp : d' + 1 ≤ j.1)
    (hb : b' ≤ r)
    (kr : ∀ v G', P v G' → wk_V w mJ26_find j 71 [(1, vI x1), (2, vR a2), (3, vR a3), (4, vR a4), (7, vR a7), (8, vR a8), (9, vR a9)] (v.toList ++ []) G' (r - b'))
    (kx : ∀ E q G', PX E q G' → wk_T w mJ26_find j 68 [(1, vI x1), (2, vR a2), (3, vR a3), (4, vR a4), (7, vR a7), (8, vR a8), (9, vR a9)] G' (r - b') E q)
    : wk_V w mJ26_find j 65 [(1, vI x1), (2, vR a2), (3, vR a3), (4, vR a4), (7, vR a7), (8, vR a8), (9, vR a9)] [] G r := by
  refine wk_aload_n 2 dJ26_find_65 rfl rfl ?_
  refine wk_aload dJ26_find_66 rfl ?_
  refine wk_eAt 1 e1 rfl ?_
  exact wk_callU (n := 1) (x := ⟨"java/lang/Object", "equals", "(Ljava/lang/Object;)Z"⟩) "java/lang/Object" hC rfl (Or.inl (by decide +kernel)) q1095 q1049 q1048 (by show Cond.selects (hp_C (hp_kd G o1)) _ _ ∈ lw_all; rw [hkr]; exact q1060) q3225 q1081 (by decide +kernel) (Nat.le_of_ble_eq_true rfl) ⟨by show hp_kd G o1 ≠ 0; rw [hkr]; decide, by show hp_kd G o1 < 28; rw [hkr]; decide⟩ rfl rfl (Nat.le_of_ble_eq_true rfl) hdp hb dJ26_find_68 kr kx
theorem blJ26_find_65_k14 {w : WD} {j : JB} {r : Nat} {G : GH} {x1 : Int32} {a2 : Option Nat} {a3 : Option Nat} {a4 : Option Nat} {a7 : Option Nat} {a8 : Option Nat} {a9 : Option Nat} {o1 : Nat} {d' b' : Nat} {P : Option WV → GH → Prop} {PX : String → Nat → GH → Prop}
    (e1 : a2 = some o1)
    (hkr : hp_kd G o1 = 14)
    (hC : wk_C w mJ28_equals d' b' [vR (some o1), vR a7] G P PX)
    (hdp : d' + 1 ≤ j.1)
    (hb : b' ≤ r)
    (kr : ∀ v G', P v G' → wk_V w mJ26_find j 71 [(1, vI x1), (2, vR a2), (3, vR a3), (4, vR a4), (7, vR a7), (8, vR a8), (9, vR a9)] (v.toList ++ []) G' (r - b'))
    (kx : ∀ E q G', PX E q G' → wk_T w mJ26_find j 68 [(1, vI x1), (2, vR a2), (3, vR a3), (4, vR a4), (7, vR a7), (8, vR a8), (9, vR a9)] G' (r - b') E q)
    : wk_V w mJ26_find j 65 [(1, vI x1), (2, vR a2), (3, vR a3), (4, vR a4), (7, vR a7), (8, vR a8), (9, vR a9)] [] G r := by
  refine wk_aload_n 2 dJ26_find_65 rfl rfl ?_
  refine wk_aload dJ26_find_66 rfl ?_
  refine wk_eAt 1 e1 rfl ?_
  exact wk_callU (n := 1) (x := ⟨"java/lang/Object", "equals", "(Ljava/lang/Object;)Z"⟩) "java/lang/Object" hC rfl (Or.inl (by decide +kernel)) q1095 q1049 q1048 (by show Cond.selects (hp_C (hp_kd G o1)) _ _ ∈ lw_all; rw [hkr]; exact q1061) q3225 q1081 (by decide +kernel) (Nat.le_of_ble_eq_true rfl) ⟨by show hp_kd G o1 ≠ 0; rw [hkr]; decide, by show hp_kd G o1 < 28; rw [hkr]; decide⟩ rfl rfl (Nat.le_of_ble_eq_true rfl) hdp hb dJ26_find_68 kr kx
theorem blJ26_find_65_k8 {w : WD} {j : JB} {r : Nat} {G : GH} {x1 : Int32} {a2 : Option Nat} {a3 : Option Nat} {a4 : Option Nat} {a7 : Option Nat} {a8 : Option Nat} {a9 : Option Nat} {o1 : Nat} {d' b' : Nat} {P : Option WV → GH → Prop} {PX : String → Nat → GH → Prop}
    (e1 : a2 = some o1)
    (hkr : hp_kd G o1 = 8)
    (hC : wk_C w mJ28_equals d' b' [vR (some o1), vR a7] G P PX)
    (hdp : d' + 1 ≤ j.1)
    (hb : b' ≤ r)
    (kr : ∀ v G', P v G' → wk_V w mJ26_find j 71 [(1, vI x1), (2, vR a2), (3, vR a3), (4, vR a4), (7, vR a7), (8, vR a8), (9, vR a9)] (v.toList ++ []) G' (r - b'))
    (kx : ∀ E q G', PX E q G' → wk_T w mJ26_find j 68 [(1, vI x1), (2, vR a2), (3, vR a3), (4, vR a4), (7, vR a7), (8, vR a8), (9, vR a9)] G' (r - b') E q)
    : wk_V w mJ26_find j 65 [(1, vI x1), (2, vR a2), (3, vR a3), (4, vR a4), (7, vR a7), (8, vR a8), (9, vR a9)] [] G r := by
  refine wk_aload_n 2 dJ26_find_65 rfl rfl ?_
  refine wk_aload dJ26_find_66 rfl ?_
  refine wk_eAt 1 e1 rfl ?_
  exact wk_callU (n := 1) (x := ⟨"java/lang/Object", "equals", "(Ljava/lang/Object;)Z"⟩) "java/lang/Object" hC rfl (Or.inl (by decide +kernel)) q1095 q1049 q1048 (by show Cond.selects (hp_C (hp_kd G o1)) _ _ ∈ lw_all; rw [hkr]; exact q1062) q3225 q1081 (by decide +kernel) (Nat.le_of_ble_eq_true rfl) ⟨by show hp_kd G o1 ≠ 0; rw [hkr]; decide, by show hp_kd G o1 < 28; rw [hkr]; decide⟩ rfl rfl (Nat.le_of_ble_eq_true rfl) hdp hb dJ26_find_68 kr kx
theorem blJ26_find_65_k10 {w : WD} {j : JB} {r : Nat} {G : GH} {x1 : Int32} {a2 : Option Nat} {a3 : Option Nat} {a4 : Option Nat} {a7 : Option Nat} {a8 : Option Nat} {a9 : Option Nat} {o1 : Nat} {d' b' : Nat} {P : Option WV → GH → Prop} {PX : String → Nat → GH → Prop}
    (e1 : a2 = some o1)
    (hkr : hp_kd G o1 = 10)
    (hC : wk_C w mJ28_equals d' b' [vR (some o1), vR a7] G P PX)
    (hdp : d' + 1 ≤ j.1)
    (hb : b' ≤ r)
    (kr : ∀ v G', P v G' → wk_V w mJ26_find j 71 [(1, vI x1), (2, vR a2), (3, vR a3), (4, vR a4), (7, vR a7), (8, vR a8), (9, vR a9)] (v.toList ++ []) G' (r - b'))
    (kx : ∀ E q G', PX E q G' → wk_T w mJ26_find j 68 [(1, vI x1), (2, vR a2), (3, vR a3), (4, vR a4), (7, vR a7), (8, vR a8), (9, vR a9)] G' (r - b') E q)
    : wk_V w mJ26_find j 65 [(1, vI x1), (2, vR a2), (3, vR a3), (4, vR a4), (7, vR a7), (8, vR a8), (9, vR a9)] [] G r := by
  refine wk_aload_n 2 dJ26_find_65 rfl rfl ?_
  refine wk_aload dJ26_find_66 rfl ?_
  refine wk_eAt 1 e1 rfl ?_
  exact wk_callU (n := 1) (x := ⟨"java/lang/Object", "equals", "(Ljava/lang/Object;)Z"⟩) "java/lang/Object" hC rfl (Or.inl (by decide +kernel)) q1095 q1049 q1048 (by show Cond.selects (hp_C (hp_kd G o1)) _ _ ∈ lw_all; rw [hkr]; exact q1063) q3225 q1081 (by decide +kernel) (Nat.le_of_ble_eq_true rfl) ⟨by show hp_kd G o1 ≠ 0; rw [hkr]; decide, by show hp_kd G o1 < 28; rw [hkr]; decide⟩ rfl rfl (Nat.le_of_ble_eq_true rfl) hdp hb dJ26_find_68 kr kx
theorem blJ26_find_65_k15 {w : WD} {j : JB} {r : Nat} {G : GH} {x1 : Int32} {a2 : Option Nat} {a3 : Option Nat} {a4 : Option Nat} {a7 : Option Nat} {a8 : Option Nat} {a9 : Option Nat} {o1 : Nat} {d' b' : Nat} {P : Option WV → GH → Prop} {PX : String → Nat → GH → Prop}
    (e1 : a2 = some o1)
    (hkr : hp_kd G o1 = 15)
    (hC : wk_C w mJ28_equals d' b' [vR (some o1), vR a7] G P PX)
    (hdp : d' + 1 ≤ j.1)
    (hb : b' ≤ r)
    (kr : ∀ v G', P v G' → wk_V w mJ26_find j 71 [(1, vI x1), (2, vR a2), (3, vR a3), (4, vR a4), (7, vR a7), (8, vR a8), (9, vR a9)] (v.toList ++ []) G' (r - b'))
    (kx : ∀ E q G', PX E q G' → wk_T w mJ26_find j 68 [(1, vI x1), (2, vR a2), (3, vR a3), (4, vR a4), (7, vR a7), (8, vR a8), (9, vR a9)] G' (r - b') E q)
    : wk_V w mJ26_find j 65 [(1, vI x1), (2, vR a2), (3, vR a3), (4, vR a4), (7, vR a7), (8, vR a8), (9, vR a9)] [] G r := by
  refine wk_aload_n 2 dJ26_find_65 rfl rfl ?_
  refine wk_aload dJ26_find_66 rfl ?_
  refine wk_eAt 1 e1 rfl ?_
  exact wk_callU (n := 1) (x := ⟨"java/lang/Object", "equals", "(Ljava/lang/Object;)Z"⟩) "java/lang/Object" hC rfl (Or.inl (by decide +kernel)) q1095 q1049 q1048 (by show Cond.selects (hp_C (hp_kd G o1)) _ _ ∈ lw_all; rw [hkr]; exact q1064) q3225 q1081 (by decide +kernel) (Nat.le_of_ble_eq_true rfl) ⟨by show hp_kd G o1 ≠ 0; rw [hkr]; decide, by show hp_kd G o1 < 28; rw [hkr]; decide⟩ rfl rfl (Nat.le_of_ble_eq_true rfl) hdp hb dJ26_find_68 kr kx
theorem blJ26_find_65_k12 {w : WD} {j : JB} {r : Nat} {G : GH} {x1 : Int32} {a2 : Option Nat} {a3 : Option Nat} {a4 : Option Nat} {a7 : Option Nat} {a8 : Option Nat} {a9 : Option Nat} {o1 : Nat} {d' b' : Nat} {P : Option WV → GH → Prop} {PX : String → Nat → GH → Prop}
    (e1 : a2 = some o1)
    (hkr : hp_kd G o1 = 12)
    (hC : wk_C w mJ28_equals d' b' [vR (some o1), vR a7] G P PX)
    (hdp : d' + 1 ≤ j.1)
    (hb : b' ≤ r)
    (kr : ∀ v G', P v G' → wk_V w mJ26_find j 71 [(1, vI x1), (2, vR a2), (3, vR a3), (4, vR a4), (7, vR a7), (8, vR a8), (9, vR a9)] (v.toList ++ []) G' (r - b'))
    (kx : ∀ E q G', PX E q G' → wk_T w mJ26_find j 68 [(1, vI x1), (2, vR a2), (3, vR a3), (4, vR a4), (7, vR a7), (8, vR a8), (9, vR a9)] G' (r - b') E q)
    : wk_V w mJ26_find j 65 [(1, vI x1), (2, vR a2), (3, vR a3), (4, vR a4), (7, vR a7), (8, vR a8), (9, vR a9)] [] G r := by
  refine wk_aload_n 2 dJ26_find_65 rfl rfl ?_
  refine wk_aload dJ26_find_66 rfl ?_
  refine wk_eAt 1 e1 rfl ?_
  exact wk_callU (n := 1) (x := ⟨"java/lang/Object", "equals", "(Ljava/lang/Object;)Z"⟩) "java/lang/Object" hC rfl (Or.inl (by decide +kernel)) q1095 q1049 q1048 (by show Cond.selects (hp_C (hp_kd G o1)) _ _ ∈ lw_all; rw [hkr]; exact q1065) q3225 q1081 (by decide +kernel) (Nat.le_of_ble_eq_true rfl) ⟨by show hp_kd G o1 ≠ 0; rw [hkr]; decide, by show hp_kd G o1 < 28; rw [hkr]; decide⟩ rfl rfl (Nat.le_of_ble_eq_true rfl) hdp hb dJ26_find_68 kr kx
theorem blJ26_find_65_k6 {w : WD} {j : JB} {r : Nat} {G : GH} {x1 : Int32} {a2 : Option Nat} {a3 : Option Nat} {a4 : Option Nat} {a7 : Option Nat} {a8 : Option Nat} {a9 : Option Nat} {o1 : Nat} {d' b' : Nat} {P : Option WV → GH → Prop} {PX : String → Nat → GH → Prop}
    (e1 : a2 = some o1)
    (hkr : hp_kd G o1 = 6)
    (hC : wk_C w mJ28_equals d' b' [vR (some o1), vR a7] G P PX)
    (hdp : d' + 1 ≤ j.1)
    (hb : b' ≤ r)
    (kr : ∀ v G', P v G' → wk_V w mJ26_find j 71 [(1, vI x1), (2, vR a2), (3, vR a3), (4, vR a4), (7, vR a7), (8, vR a8), (9, vR a9)] (v.toList ++ []) G' (r - b'))
    (kx : ∀ E q G', PX E q G' → wk_T w mJ26_find j 68 [(1, vI x1), (2, vR a2), (3, vR a3), (4, vR a4), (7, vR a7), (8, vR a8), (9, vR a9)] G' (r - b') E q)
    : wk_V w mJ26_find j 65 [(1, vI x1), (2, vR a2), (3, vR a3), (4, vR a4), (7, vR a7), (8, vR a8), (9, vR a9)] [] G r := by
  refine wk_aload_n 2 dJ26_find_65 rfl rfl ?_
  refine wk_aload dJ26_find_66 rfl ?_
  refine wk_eAt 1 e1 rfl ?_
  exact wk_callU (n := 1) (x := ⟨"java/lang/Object", "equals", "(Ljava/lang/Object;)Z"⟩) "java/lang/Object" hC rfl (Or.inl (by decide +kernel)) q1095 q1049 q1048 (by show Cond.selects (hp_C (hp_kd G o1)) _ _ ∈ lw_all; rw [hkr]; exact q1070) q3225 q1081 (by decide +kernel) (Nat.le_of_ble_eq_true rfl) ⟨by show hp_kd G o1 ≠ 0; rw [hkr]; decide, by show hp_kd G o1 < 28; rw [hkr]; decide⟩ rfl rfl (Nat.le_of_ble_eq_true rfl) hdp hb dJ26_find_68 kr kx
theorem blJ26_find_65_k19 {w : WD} {j : JB} {r : Nat} {G : GH} {x1 : Int32} {a2 : Option Nat} {a3 : Option Nat} {a4 : Option Nat} {a7 : Option Nat} {a8 : Option Nat} {a9 : Option Nat} {o1 : Nat} {d' b' : Nat} {P : Option WV → GH → Prop} {PX : String → Nat → GH → Prop}
    (e1 : a2 = some o1)
    (hkr : hp_kd G o1 = 19)
    (hC : wk_C w mJ28_equals d' b' [vR (some o1), vR a7] G P PX)
    (hdp : d' + 1 ≤ j.1)
    (hb : b' ≤ r)
    (kr : ∀ v G', P v G' → wk_V w mJ26_find j 71 [(1, vI x1), (2, vR a2), (3, vR a3), (4, vR a4), (7, vR a7), (8, vR a8), (9, vR a9)] (v.toList ++ []) G' (r - b'))
    (kx : ∀ E q G', PX E q G' → wk_T w mJ26_find j 68 [(1, vI x1), (2, vR a2), (3, vR a3), (4, vR a4), (7, vR a7), (8, vR a8), (9, vR a9)] G' (r - b') E q)
    : wk_V w mJ26_find j 65 [(1, vI x1), (2, vR a2), (3, vR a3), (4, vR a4), (7, vR a7), (8, vR a8), (9, vR a9)] [] G r := by
  refine wk_aload_n 2 dJ26_find_65 rfl rfl ?_
  refine wk_aload dJ26_find_66 rfl ?_
  refine wk_eAt 1 e1 rfl ?_
  exact wk_callU (n := 1) (x := ⟨"java/lang/Object", "equals", "(Ljava/lang/Object;)Z"⟩) "java/lang/Object" hC rfl (Or.inl (by decide +kernel)) q1095 q1049 q1048 (by show Cond.selects (hp_C (hp_kd G o1)) _ _ ∈ lw_all; rw [hkr]; exact q1071) q3225 q1081 (by decide +kernel) (Nat.le_of_ble_eq_true rfl) ⟨by show hp_kd G o1 ≠ 0; rw [hkr]; decide, by show hp_kd G o1 < 28; rw [hkr]; decide⟩ rfl rfl (Nat.le_of_ble_eq_true rfl) hdp hb dJ26_find_68 kr kx
theorem blJ26_find_65_k3 {w : WD} {j : JB} {r : Nat} {G : GH} {x1 : Int32} {a2 : Option Nat} {a3 : Option Nat} {a4 : Option Nat} {a7 : Option Nat} {a8 : Option Nat} {a9 : Option Nat} {o1 : Nat} {d' b' : Nat} {P : Option WV → GH → Prop} {PX : String → Nat → GH → Prop}
    (e1 : a2 = some o1)
    (hkr : hp_kd G o1 = 3)
    (hC : wk_C w mJ28_equals d' b' [vR (some o1), vR a7] G P PX)
    (hdp : d' + 1 ≤ j.1)
    (hb : b' ≤ r)
    (kr : ∀ v G', P v G' → wk_V w mJ26_find j 71 [(1, vI x1), (2, vR a2), (3, vR a3), (4, vR a4), (7, vR a7), (8, vR a8), (9, vR a9)] (v.toList ++ []) G' (r - b'))
    (kx : ∀ E q G', PX E q G' → wk_T w mJ26_find j 68 [(1, vI x1), (2, vR a2), (3, vR a3), (4, vR a4), (7, vR a7), (8, vR a8), (9, vR a9)] G' (r - b') E q)
    : wk_V w mJ26_find j 65 [(1, vI x1), (2, vR a2), (3, vR a3), (4, vR a4), (7, vR a7), (8, vR a8), (9, vR a9)] [] G r := by
  refine wk_aload_n 2 dJ26_find_65 rfl rfl ?_
  refine wk_aload dJ26_find_66 rfl ?_
  refine wk_eAt 1 e1 rfl ?_
  exact wk_callU (n := 1) (x := ⟨"java/lang/Object", "equals", "(Ljava/lang/Object;)Z"⟩) "java/lang/Object" hC rfl (Or.inl (by decide +kernel)) q1095 q1049 q1048 (by show Cond.selects (hp_C (hp_kd G o1)) _ _ ∈ lw_all; rw [hkr]; exact q1072) q3225 q1081 (by decide +kernel) (Nat.le_of_ble_eq_true rfl) ⟨by show hp_kd G o1 ≠ 0; rw [hkr]; decide, by show hp_kd G o1 < 28; rw [hkr]; decide⟩ rfl rfl (Nat.le_of_ble_eq_true rfl) hdp hb dJ26_find_68 kr kx
theorem blJ26_find_65_k1 {w : WD} {j : JB} {r : Nat} {G : GH} {x1 : Int32} {a2 : Option Nat} {a3 : Option Nat} {a4 : Option Nat} {a7 : Option Nat} {a8 : Option Nat} {a9 : Option Nat} {o1 : Nat} {d' b' : Nat} {P : Option WV → GH → Prop} {PX : String → Nat → GH → Prop}
    (e1 : a2 = some o1)
    (hkr : hp_kd G o1 = 1)
    (hC : wk_C w mJ28_equals d' b' [vR (some o1), vR a7] G P PX)
    (hdp : d' + 1 ≤ j.1)
    (hb : b' ≤ r)
    (kr : ∀ v G', P v G' → wk_V w mJ26_find j 71 [(1, vI x1), (2, vR a2), (3, vR a3), (4, vR a4), (7, vR a7), (8, vR a8), (9, vR a9)] (v.toList ++ []) G' (r - b'))
    (kx : ∀ E q G', PX E q G' → wk_T w mJ26_find j 68 [(1, vI x1), (2, vR a2), (3, vR a3), (4, vR a4), (7, vR a7), (8, vR a8), (9, vR a9)] G' (r - b') E q)
    : wk_V w mJ26_find j 65 [(1, vI x1), (2, vR a2), (3, vR a3), (4, vR a4), (7, vR a7), (8, vR a8), (9, vR a9)] [] G r := by
  refine wk_aload_n 2 dJ26_find_65 rfl rfl ?_
  refine wk_aload dJ26_find_66 rfl ?_
  refine wk_eAt 1 e1 rfl ?_
  exact wk_callU (n := 1) (x := ⟨"java/lang/Object", "equals", "(Ljava/lang/Object;)Z"⟩) "java/lang/Object" hC rfl (Or.inl (by decide +kernel)) q1095 q1049 q1048 (by show Cond.selects (hp_C (hp_kd G o1)) _ _ ∈ lw_all; rw [hkr]; exact q1073) q3225 q1081 (by decide +kernel) (Nat.le_of_ble_eq_true rfl) ⟨by show hp_kd G o1 ≠ 0; rw [hkr]; decide, by show hp_kd G o1 < 28; rw [hkr]; decide⟩ rfl rfl (Nat.le_of_ble_eq_true rfl) hdp hb dJ26_find_68 kr kx
theorem blJ26_find_65_k4 {w : WD} {j : JB} {r : Nat} {G : GH} {x1 : Int32} {a2 : Option Nat} {a3 : Option Nat} {a4 : Option Nat} {a7 : Option Nat} {a8 : Option Nat} {a9 : Option Nat} {o1 : Nat} {d' b' : Nat} {P : Option WV → GH → Prop} {PX : String → Nat → GH → Prop}
    (e1 : a2 = some o1)
    (hkr : hp_kd G o1 = 4)
    (hC : wk_C w mJ28_equals d' b' [vR (some o1), vR a7] G P PX)
    (hdp : d' + 1 ≤ j.1)
    (hb : b' ≤ r)
    (kr : ∀ v G', P v G' → wk_V w mJ26_find j 71 [(1, vI x1), (2, vR a2), (3, vR a3), (4, vR a4), (7, vR a7), (8, vR a8), (9, vR a9)] (v.toList ++ []) G' (r - b'))
    (kx : ∀ E q G', PX E q G' → wk_T w mJ26_find j 68 [(1, vI x1), (2, vR a2), (3, vR a3), (4, vR a4), (7, vR a7), (8, vR a8), (9, vR a9)] G' (r - b') E q)
    : wk_V w mJ26_find j 65 [(1, vI x1), (2, vR a2), (3, vR a3), (4, vR a4), (7, vR a7), (8, vR a8), (9, vR a9)] [] G r := by
  refine wk_aload_n 2 dJ26_find_65 rfl rfl ?_
  refine wk_aload dJ26_find_66 rfl ?_
  refine wk_eAt 1 e1 rfl ?_
  exact wk_callU (n := 1) (x := ⟨"java/lang/Object", "equals", "(Ljava/lang/Object;)Z"⟩) "java/lang/Object" hC rfl (Or.inl (by decide +kernel)) q1095 q1049 q1048 (by show Cond.selects (hp_C (hp_kd G o1)) _ _ ∈ lw_all; rw [hkr]; exact q1074) q3225 q1081 (by decide +kernel) (Nat.le_of_ble_eq_true rfl) ⟨by show hp_kd G o1 ≠ 0; rw [hkr]; decide, by show hp_kd G o1 < 28; rw [hkr]; decide⟩ rfl rfl (Nat.le_of_ble_eq_true rfl) hdp hb dJ26_find_68 kr kx
theorem blJ26_find_65_k26 {w : WD} {j : JB} {r : Nat} {G : GH} {x1 : Int32} {a2 : Option Nat} {a3 : Option Nat} {a4 : Option Nat} {a7 : Option Nat} {a8 : Option Nat} {a9 : Option Nat} {o1 : Nat} {d' b' : Nat} {P : Option WV → GH → Prop} {PX : String → Nat → GH → Prop}
    (e1 : a2 = some o1)
    (hkr : hp_kd G o1 = 26)
    (hC : wk_C w mJ13_equals d' b' [vR (some o1), vR a7] G P PX)
    (hdp : d' + 1 ≤ j.1)
    (hb : b' ≤ r)
    (kr : ∀ v G', P v G' → wk_V w mJ26_find j 71 [(1, vI x1), (2, vR a2), (3, vR a3), (4, vR a4), (7, vR a7), (8, vR a8), (9, vR a9)] (v.toList ++ []) G' (r - b'))
    (kx : ∀ E q G', PX E q G' → wk_T w mJ26_find j 68 [(1, vI x1), (2, vR a2), (3, vR a3), (4, vR a4), (7, vR a7), (8, vR a8), (9, vR a9)] G' (r - b') E q)
    : wk_V w mJ26_find j 65 [(1, vI x1), (2, vR a2), (3, vR a3), (4, vR a4), (7, vR a7), (8, vR a8), (9, vR a9)] [] G r := by
  refine wk_aload_n 2 dJ26_find_65 rfl rfl ?_
  refine wk_aload dJ26_find_66 rfl ?_
  refine wk_eAt 1 e1 rfl ?_
  exact wk_callU (n := 1) (x := ⟨"java/lang/Object", "equals", "(Ljava/lang/Object;)Z"⟩) "java/lang/Object" hC rfl (Or.inl (by decide +kernel)) q1095 q1049 q896 (by show Cond.selects (hp_C (hp_kd G o1)) _ _ ∈ lw_all; rw [hkr]; exact q1077) q129 q898 (by decide +kernel) (Nat.le_of_ble_eq_true rfl) ⟨by show hp_kd G o1 ≠ 0; rw [hkr]; decide, by show hp_kd G o1 < 28; rw [hkr]; decide⟩ rfl rfl (Nat.le_of_ble_eq_true rfl) hdp hb dJ26_find_68 kr kx
theorem blJ26_find_65_k27 {w : WD} {j : JB} {r : Nat} {G : GH} {x1 : Int32} {a2 : Option Nat} {a3 : Option Nat} {a4 : Option Nat} {a7 : Option Nat} {a8 : Option Nat} {a9 : Option Nat} {o1 : Nat} {d' b' : Nat} {P : Option WV → GH → Prop} {PX : String → Nat → GH → Prop}
    (e1 : a2 = some o1)
    (hkr : hp_kd G o1 = 27)
    (hC : wk_C w mJ28_equals d' b' [vR (some o1), vR a7] G P PX)
    (hdp : d' + 1 ≤ j.1)
    (hb : b' ≤ r)
    (kr : ∀ v G', P v G' → wk_V w mJ26_find j 71 [(1, vI x1), (2, vR a2), (3, vR a3), (4, vR a4), (7, vR a7), (8, vR a8), (9, vR a9)] (v.toList ++ []) G' (r - b'))
    (kx : ∀ E q G', PX E q G' → wk_T w mJ26_find j 68 [(1, vI x1), (2, vR a2), (3, vR a3), (4, vR a4), (7, vR a7), (8, vR a8), (9, vR a9)] G' (r - b') E q)
    : wk_V w mJ26_find j 65 [(1, vI x1), (2, vR a2), (3, vR a3), (4, vR a4), (7, vR a7), (8, vR a8), (9, vR a9)] [] G r := by
  refine wk_aload_n 2 dJ26_find_65 rfl rfl ?_
  refine wk_aload dJ26_find_66 rfl ?_
  refine wk_eAt 1 e1 rfl ?_
  exact wk_callU (n := 1) (x := ⟨"java/lang/Object", "equals", "(Ljava/lang/Object;)Z"⟩) "java/lang/Object" hC rfl (Or.inl (by decide +kernel)) q1095 q1049 q1048 (by show Cond.selects (hp_C (hp_kd G o1)) _ _ ∈ lw_all; rw [hkr]; exact q1078) q3225 q1081 (by decide +kernel) (Nat.le_of_ble_eq_true rfl) ⟨by show hp_kd G o1 ≠ 0; rw [hkr]; decide, by show hp_kd G o1 < 28; rw [hkr]; decide⟩ rfl rfl (Nat.le_of_ble_eq_true rfl) hdp hb dJ26_find_68 kr kx
theorem blJ26_find_71 {w : WD} {j : JB} {r : Nat} {G : GH} {x1 : Int32} {a2 : Option Nat} {a3 : Option Nat} {a4 : Option Nat} {a7 : Option Nat} {a8 : Option Nat} {a9 : Option Nat} {s0 : Int32}
    (kt : s0 = 0 → wk_V w mJ26_find j 77 [(1, vI x1), (2, vR a2), (3, vR a3), (7, vR a7), (8, vR a8), (9, vR a9)] [] G r)
    (kf : ¬ (s0 = 0) → wk_V w mJ26_find j 74 [(4, vR a4)] [] G r)
    : wk_V w mJ26_find j 71 [(1, vI x1), (2, vR a2), (3, vR a3), (4, vR a4), (7, vR a7), (8, vR a8), (9, vR a9)] [vI s0] G r := by
  exact wk_if_eq 77 dJ26_find_71 (by decide) (fun h => (wk_sub [(1, vI x1), (2, vR a2), (3, vR a3), (7, vR a7), (8, vR a8), (9, vR a9)] ⟨rfl, rfl, rfl, rfl, rfl, rfl, trivial⟩ (kt h))) (fun h => (wk_sub [(4, vR a4)] ⟨rfl, trivial⟩ (kf h)))
theorem blJ26_find_74 {w : WD} {j : JB} {r : Nat} {G : GH} {a4 : Option Nat}
    (hP : j.2.2.1 (some (vR a4)) G)
    : wk_V w mJ26_find j 74 [(4, vR a4)] [] G r := by
  refine wk_aload dJ26_find_74 rfl ?_
  exact wk_areturn rfl (Or.inl ⟨_, rfl⟩) dJ26_find_76 hP
theorem blJ26_find_77 {w : WD} {j : JB} {r : Nat} {G : GH} {x1 : Int32} {a2 : Option Nat} {a3 : Option Nat} {a7 : Option Nat} {a8 : Option Nat} {a9 : Option Nat}
    (kt : ∀ o9, a8 = some o9 → wk_V w mJ26_find j 89 [(1, vI x1), (2, vR a2), (3, vR a3), (7, vR a7), (8, vR a8), (9, vR a9)] [] G r)
    (kf : a8 = none → wk_V w mJ26_find j 82 [(1, vI x1), (2, vR a2), (3, vR a3), (9, vR a9)] [] G r)
    : wk_V w mJ26_find j 77 [(1, vI x1), (2, vR a2), (3, vR a3), (7, vR a7), (8, vR a8), (9, vR a9)] [] G r := by
  refine wk_aload dJ26_find_77 rfl ?_
  exact wk_ifnonnull 89 dJ26_find_79 (by decide) (fun o9 h => (kt o9 h)) (fun h => (wk_sub [(1, vI x1), (2, vR a2), (3, vR a3), (9, vR a9)] ⟨rfl, rfl, rfl, rfl, trivial⟩ (kf h)))
theorem blJ26_find_82 {w : WD} {j : JB} {r : Nat} {G : GH} {x1 : Int32} {a2 : Option Nat} {a3 : Option Nat} {a9 : Option Nat}
    (k : wk_V w mJ26_find j 165 [(1, vI x1), (2, vR a2), (3, vR a3), (4, vR a9)] [] G r)
    : wk_V w mJ26_find j 82 [(1, vI x1), (2, vR a2), (3, vR a3), (9, vR a9)] [] G r := by
  refine wk_aload dJ26_find_82 rfl ?_
  refine wk_astore dJ26_find_84 (Nat.le_of_ble_eq_true rfl) ?_
  exact wk_goto 165 dJ26_find_86 (by decide) (wk_sub [(1, vI x1), (2, vR a2), (3, vR a3), (4, vR a9)] ⟨rfl, rfl, rfl, rfl, trivial⟩ k)
theorem blJ26_find_89 {w : WD} {j : JB} {r : Nat} {G : GH} {x1 : Int32} {a2 : Option Nat} {a3 : Option Nat} {a7 : Option Nat} {a8 : Option Nat} {a9 : Option Nat}
    (kt : ∀ o9, a9 = some o9 → wk_V w mJ26_find j 101 [(1, vI x1), (2, vR a2), (3, vR a3), (7, vR a7), (8, vR a8), (9, vR a9)] [] G r)
    (kf : a9 = none → wk_V w mJ26_find j 94 [(1, vI x1), (2, vR a2), (3, vR a3), (8, vR a8)] [] G r)
    : wk_V w mJ26_find j 89 [(1, vI x1), (2, vR a2), (3, vR a3), (7, vR a7), (8, vR a8), (9, vR a9)] [] G r := by
  refine wk_aload dJ26_find_89 rfl ?_
  exact wk_ifnonnull 101 dJ26_find_91 (by decide) (fun o9 h => (kt o9 h)) (fun h => (wk_sub [(1, vI x1), (2, vR a2), (3, vR a3), (8, vR a8)] ⟨rfl, rfl, rfl, rfl, trivial⟩ (kf h)))
theorem blJ26_find_94 {w : WD} {j : JB} {r : Nat} {G : GH} {x1 : Int32} {a2 : Option Nat} {a3 : Option Nat} {a8 : Option Nat}
    (k : wk_V w mJ26_find j 165 [(1, vI x1), (2, vR a2), (3, vR a3), (4, vR a8)] [] G r)
    : wk_V w mJ26_find j 94 [(1, vI x1), (2, vR a2), (3, vR a3), (8, vR a8)] [] G r := by
  refine wk_aload dJ26_find_94 rfl ?_
  refine wk_astore dJ26_find_96 (Nat.le_of_ble_eq_true rfl) ?_
  exact wk_goto 165 dJ26_find_98 (by decide) (wk_sub [(1, vI x1), (2, vR a2), (3, vR a3), (4, vR a8)] ⟨rfl, rfl, rfl, rfl, trivial⟩ k)
theorem blJ26_find_101 {w : WD} {j : JB} {r : Nat} {G : GH} {x1 : Int32} {a2 : Option Nat} {a3 : Option Nat} {a7 : Option Nat} {a8 : Option Nat} {a9 : Option Nat}
    (kt : ∀ o9, a3 = some o9 → wk_V w mJ26_find j 114 [(1, vI x1), (2, vR a2), (3, vR a3), (7, vR a7), (8, vR a8), (9, vR a9)] [] G r)
    (kf : a3 = none → wk_V w mJ26_find j 105 [(1, vI x1), (2, vR a2), (7, vR a7), (8, vR a8), (9, vR a9)] [] G r)
    : wk_V w mJ26_find j 101 [(1, vI x1), (2, vR a2), (3, vR a3), (7, vR a7), (8, vR a8), (9, vR a9)] [] G r := by
  refine wk_aload_n 3 dJ26_find_101 rfl rfl ?_
  exact wk_ifnonnull 114 dJ26_find_102 (by decide) (fun o9 h => (kt o9 h)) (fun h => (wk_sub [(1, vI x1), (2, vR a2), (7, vR a7), (8, vR a8), (9, vR a9)] ⟨rfl, rfl, rfl, rfl, rfl, trivial⟩ (kf h)))
theorem blJ26_find_105 {w : WD} {j : JB} {r : Nat} {G : GH} {x1 : Int32} {a2 : Option Nat} {a7 : Option Nat} {a8 : Option Nat} {a9 : Option Nat} {d' b' : Nat} {P : Option WV → GH → Prop} {PX : String → Nat → GH → Prop}
    (hC : wk_C w mJ7_comparableClassFor d' b' [vR a2] G P PX)
    (hdp : d' + 1 ≤ j.1)
    (hb : b' ≤ r)
    (kr : ∀ v G', P v G' → wk_V w mJ26_find j 109 [(1, vI x1), (2, vR a2), (7, vR a7), (8, vR a8), (9, vR a9)] (v.toList ++ []) G' (r - b'))
    (kx : ∀ E q G', PX E q G' → wk_T w mJ26_find j 106 [(1, vI x1), (2, vR a2), (7, vR a7), (8, vR a8), (9, vR a9)] G' (r - b') E q)
    : wk_V w mJ26_find j 105 [(1, vI x1), (2, vR a2), (7, vR a7), (8, vR a8), (9, vR a9)] [] G r := by
  refine wk_aload_n 2 dJ26_find_105 rfl rfl ?_
  exact wk_callS hC rfl q1096 q1097 q119 q1098 mdJ7_comparableClassFor (Nat.le_of_ble_eq_true rfl) rfl rfl (Nat.le_of_ble_eq_true rfl) hdp hb dJ26_find_106 kr kx
theorem blJ26_find_109 {w : WD} {j : JB} {r : Nat} {G : GH} {x1 : Int32} {a2 : Option Nat} {a7 : Option Nat} {a8 : Option Nat} {a9 : Option Nat} {sa0 : Option Nat}
    (kt : sa0 = none → wk_V w mJ26_find j 144 [(1, vI x1), (2, vR a2), (3, vR sa0), (8, vR a8), (9, vR a9)] [] G r)
    (kf : ∀ o9, sa0 = some o9 → wk_V w mJ26_find j 114 [(1, vI x1), (2, vR a2), (3, vR sa0), (7, vR a7), (8, vR a8), (9, vR a9)] [] G r)
    : wk_V w mJ26_find j 109 [(1, vI x1), (2, vR a2), (7, vR a7), (8, vR a8), (9, vR a9)] [vR sa0] G r := by
  refine wk_dup dJ26_find_109 rfl ?_
  refine wk_astore_n 3 dJ26_find_110 rfl (Nat.le_of_ble_eq_true rfl) ?_
  exact wk_ifnull 144 dJ26_find_111 (by decide) (fun h => (wk_sub [(1, vI x1), (2, vR a2), (3, vR sa0), (8, vR a8), (9, vR a9)] ⟨rfl, rfl, rfl, rfl, rfl, trivial⟩ (kt h))) (fun o9 h => (kf o9 h))
theorem blJ26_find_114 {w : WD} {j : JB} {r : Nat} {G : GH} {x1 : Int32} {a2 : Option Nat} {a3 : Option Nat} {a7 : Option Nat} {a8 : Option Nat} {a9 : Option Nat} {d' b' : Nat} {P : Option WV → GH → Prop} {PX : String → Nat → GH → Prop}
    (hC : wk_C w mJ7_compareComparables d' b' [vR a3, vR a2, vR a7] G P PX)
    (hdp : d' + 1 ≤ j.1)
    (hb : b' ≤ r)
    (kr : ∀ v G', P v G' → wk_V w mJ26_find j 121 [(1, vI x1), (2, vR a2), (3, vR a3), (8, vR a8), (9, vR a9)] (v.toList ++ []) G' (r - b'))
    (kx : ∀ E q G', PX E q G' → wk_T w mJ26_find j 118 [(1, vI x1), (2, vR a2), (3, vR a3), (7, vR a7), (8, vR a8), (9, vR a9)] G' (r - b') E q)
    : wk_V w mJ26_find j 114 [(1, vI x1), (2, vR a2), (3, vR a3), (7, vR a7), (8, vR a8), (9, vR a9)] [] G r := by
  refine wk_aload_n 3 dJ26_find_114 rfl rfl ?_
  refine wk_aload_n 2 dJ26_find_115 rfl rfl ?_
  refine wk_aload dJ26_find_116 rfl ?_
  exact wk_callS hC rfl q1139 q1140 q119 q1141 mdJ7_compareComparables (Nat.le_of_ble_eq_true rfl) rfl rfl (Nat.le_of_ble_eq_true rfl) hdp hb dJ26_find_118 (fun v G' h => (wk_sub [(1, vI x1), (2, vR a2), (3, vR a3), (8, vR a8), (9, vR a9)] ⟨rfl, rfl, rfl, rfl, rfl, trivial⟩ (kr v G' h))) kx
theorem blJ26_find_121 {w : WD} {j : JB} {r : Nat} {G : GH} {x1 : Int32} {a2 : Option Nat} {a3 : Option Nat} {a8 : Option Nat} {a9 : Option Nat} {s0 : Int32}
    (kt : s0 = 0 → wk_V w mJ26_find j 144 [(1, vI x1), (2, vR a2), (3, vR a3), (8, vR a8), (9, vR a9)] [] G r)
    (kf : ¬ (s0 = 0) → wk_V w mJ26_find j 127 [(1, vI x1), (2, vR a2), (3, vR a3), (6, vI s0), (8, vR a8), (9, vR a9)] [] G r)
    : wk_V w mJ26_find j 121 [(1, vI x1), (2, vR a2), (3, vR a3), (8, vR a8), (9, vR a9)] [vI s0] G r := by
  refine wk_dup dJ26_find_121 rfl ?_
  refine wk_istore dJ26_find_122 (Nat.le_of_ble_eq_true rfl) ?_
  exact wk_if_eq 144 dJ26_find_124 (by decide) (fun h => (wk_sub [(1, vI x1), (2, vR a2), (3, vR a3), (8, vR a8), (9, vR a9)] ⟨rfl, rfl, rfl, rfl, rfl, trivial⟩ (kt h))) (fun h => (kf h))
theorem blJ26_find_127 {w : WD} {j : JB} {r : Nat} {G : GH} {x1 : Int32} {a2 : Option Nat} {a3 : Option Nat} {x6 : Int32} {a8 : Option Nat} {a9 : Option Nat}
    (kt : 0 ≤ x6 → wk_V w mJ26_find j 137 [(1, vI x1), (2, vR a2), (3, vR a3), (9, vR a9)] [] G r)
    (kf : ¬ (0 ≤ x6) → wk_V w mJ26_find j 132 [(1, vI x1), (2, vR a2), (3, vR a3), (8, vR a8)] [] G r)
    : wk_V w mJ26_find j 127 [(1, vI x1), (2, vR a2), (3, vR a3), (6, vI x6), (8, vR a8), (9, vR a9)] [] G r := by
  refine wk_iload dJ26_find_127 rfl ?_
  exact wk_if_ge 137 dJ26_find_129 (by decide) (fun h => (wk_sub [(1, vI x1), (2, vR a2), (3, vR a3), (9, vR a9)] ⟨rfl, rfl, rfl, rfl, trivial⟩ (kt h))) (fun h => (wk_sub [(1, vI x1), (2, vR a2), (3, vR a3), (8, vR a8)] ⟨rfl, rfl, rfl, rfl, trivial⟩ (kf h)))
theorem blJ26_find_132 {w : WD} {j : JB} {r : Nat} {G : GH} {x1 : Int32} {a2 : Option Nat} {a3 : Option Nat} {a8 : Option Nat}
    (k : wk_V w mJ26_find j 139 [(1, vI x1), (2, vR a2), (3, vR a3)] [vR a8] G r)
    : wk_V w mJ26_find j 132 [(1, vI x1), (2, vR a2), (3, vR a3), (8, vR a8)] [] G r := by
  refine wk_aload dJ26_find_132 rfl ?_
  exact wk_goto 139 dJ26_find_134 (by decide) (wk_sub [(1, vI x1), (2, vR a2), (3, vR a3)] ⟨rfl, rfl, rfl, trivial⟩ k)
theorem blJ26_find_137 {w : WD} {j : JB} {r : Nat} {G : GH} {x1 : Int32} {a2 : Option Nat} {a3 : Option Nat} {a9 : Option Nat}
    (k : wk_V w mJ26_find j 139 [(1, vI x1), (2, vR a2), (3, vR a3)] [vR a9] G r)
    : wk_V w mJ26_find j 137 [(1, vI x1), (2, vR a2), (3, vR a3), (9, vR a9)] [] G r := by
  refine wk_aload dJ26_find_137 rfl ?_
  exact (wk_sub [(1, vI x1), (2, vR a2), (3, vR a3)] ⟨rfl, rfl, rfl, trivial⟩ k)
theorem blJ26_find_139 {w : WD} {j : JB} {r : Nat} {G : GH} {x1 : Int32} {a2 : Option Nat} {a3 : Option Nat} {sa0 : Option Nat}
    (k : wk_V w mJ26_find j 165 [(1, vI x1), (2, vR a2), (3, vR a3), (4, vR sa0)] [] G r)
    : wk_V w mJ26_find j 139 [(1, vI x1), (2, vR a2), (3, vR a3)] [vR sa0] G r := by
  refine wk_astore dJ26_find_139 (Nat.le_of_ble_eq_true rfl) ?_
  exact wk_goto 165 dJ26_find_141 (by decide) k
theorem blJ26_find_144 {w : WD} {j : JB} {r : Nat} {G : GH} {x1 : Int32} {a2 : Option Nat} {a3 : Option Nat} {a8 : Option Nat} {a9 : Option Nat} {o1 : Nat} {d' b' : Nat} {P : Option WV → GH → Prop} {PX : String → Nat → GH → Prop}
    (e1 : a9 = some o1)
    (hkr : hp_kd G o1 = 25)
    (hC : wk_C w mJ26_find d' b' [vR (some o1), vI x1, vR a2, vR a3] G P PX)
    (hdp : d' + 1 ≤ j.1)
    (hb : b' ≤ r)
    (kr : ∀ v G', P v G' → wk_V w mJ26_find j 152 [(1, vI x1), (2, vR a2), (3, vR a3), (8, vR a8)] (v.toList ++ []) G' (r - b'))
    (kx : ∀ E q G', PX E q G' → wk_T w mJ26_find j 149 [(1, vI x1), (2, vR a2), (3, vR a3), (8, vR a8), (9, vR a9)] G' (r - b') E q)
    : wk_V w mJ26_find j 144 [(1, vI x1), (2, vR a2), (3, vR a3), (8, vR a8), (9, vR a9)] [] G r := by
  refine wk_aload dJ26_find_144 rfl ?_
  refine wk_iload_n 1 dJ26_find_146 rfl rfl ?_
  refine wk_aload_n 2 dJ26_find_147 rfl rfl ?_
  refine wk_aload_n 3 dJ26_find_148 rfl rfl ?_
  refine wk_eAt 3 e1 rfl ?_
  exact wk_callV hC rfl q1091 q1092 q1093 q149 q1094 mdJ26_find (Nat.le_of_ble_eq_true rfl) ⟨by show hp_kd G o1 ≠ 0; rw [hkr]; decide, by show hp_kd G o1 < 28; rw [hkr]; decide, by show hp_C (hp_kd G o1) = _; rw [hkr]; rfl⟩ rfl rfl (Nat.le_of_ble_eq_true rfl) hdp hb dJ26_find_149 (fun v G' h => (wk_sub [(1, vI x1), (2, vR a2), (3, vR a3), (8, vR a8)] ⟨rfl, rfl, rfl, rfl, trivial⟩ (kr v G' h))) kx
theorem blJ26_find_152 {w : WD} {j : JB} {r : Nat} {G : GH} {x1 : Int32} {a2 : Option Nat} {a3 : Option Nat} {a8 : Option Nat} {sa0 : Option Nat}
    (kt : sa0 = none → wk_V w mJ26_find j 161 [(1, vI x1), (2, vR a2), (3, vR a3), (8, vR a8)] [] G r)
    (kf : ∀ o9, sa0 = some o9 → wk_V w mJ26_find j 158 [(10, vR sa0)] [] G r)
    : wk_V w mJ26_find j 152 [(1, vI x1), (2, vR a2), (3, vR a3), (8, vR a8)] [vR sa0] G r := by
  refine wk_dup dJ26_find_152 rfl ?_
  refine wk_astore dJ26_find_153 (Nat.le_of_ble_eq_true rfl) ?_
  exact wk_ifnull 161 dJ26_find_155 (by decide) (fun h => (wk_sub [(1, vI x1), (2, vR a2), (3, vR a3), (8, vR a8)] ⟨rfl, rfl, rfl, rfl, trivial⟩ (kt h))) (fun o9 h => (wk_sub [(10, vR sa0)] ⟨rfl, trivial⟩ (kf o9 h)))
theorem blJ26_find_158 {w : WD} {j : JB} {r : Nat} {G : GH} {a10 : Option Nat}
    (hP : j.2.2.1 (some (vR a10)) G)
    : wk_V w mJ26_find j 158 [(10, vR a10)] [] G r := by
  refine wk_aload dJ26_find_158 rfl ?_
  exact wk_areturn rfl (Or.inl ⟨_, rfl⟩) dJ26_find_160 hP
theorem blJ26_find_161 {w : WD} {j : JB} {r : Nat} {G : GH} {x1 : Int32} {a2 : Option Nat} {a3 : Option Nat} {a8 : Option Nat}
    (k : wk_V w mJ26_find j 165 [(1, vI x1), (2, vR a2), (3, vR a3), (4, vR a8)] [] G r)
    : wk_V w mJ26_find j 161 [(1, vI x1), (2, vR a2), (3, vR a3), (8, vR a8)] [] G r := by
  refine wk_aload dJ26_find_161 rfl ?_
  refine wk_astore dJ26_find_163 (Nat.le_of_ble_eq_true rfl) ?_
  exact (wk_sub [(1, vI x1), (2, vR a2), (3, vR a3), (4, vR a8)] ⟨rfl, rfl, rfl, rfl, trivial⟩ k)
theorem blJ26_find_165 {w : WD} {j : JB} {r : Nat} {G : GH} {x1 : Int32} {a2 : Option Nat} {a3 : Option Nat} {a4 : Option Nat}
    (kt : ∀ o9, a4 = some o9 → wk_V w mJ26_find j 3 [(1, vI x1), (2, vR a2), (3, vR a3), (4, vR a4)] [] G r)
    (kf : a4 = none → wk_V w mJ26_find j 170 [] [] G r)
    : wk_V w mJ26_find j 165 [(1, vI x1), (2, vR a2), (3, vR a3), (4, vR a4)] [] G r := by
  refine wk_aload dJ26_find_165 rfl ?_
  exact wk_ifnonnull 3 dJ26_find_167 (by decide) (fun o9 h => (kt o9 h)) (fun h => (wk_sub [] trivial (kf h)))
theorem blJ26_find_170 {w : WD} {j : JB} {r : Nat} {G : GH}
    (hP : j.2.2.1 (some (vR none)) G)
    : wk_V w mJ26_find j 170 [] [] G r := by
  refine wk_null dJ26_find_170 ?_
  exact wk_areturn rfl (Or.inl ⟨_, rfl⟩) dJ26_find_171 hP
/-! java/util/HashMap$TreeNode.getTreeNode(ILjava/lang/Object;)Ljava/util/HashMap$TreeNode; -/
theorem blJ26_getTreeNode_0 {w : WD} {j : JB} {r : Nat} {G : GH} {a0 : Nat} {x1 : Int32} {a2 : Option Nat}
    (hk1 : hp_kd G a0 = 25)
    (kt : (hp_r G a0 4) = none → wk_V w mJ26_getTreeNode j 14 [(0, vR (some a0)), (1, vI x1), (2, vR a2)] [] G r)
    (kf : ∀ o9, (hp_r G a0 4) = some o9 → wk_V w mJ26_getTreeNode j 7 [(0, vR (some a0)), (1, vI x1), (2, vR a2)] [] G r)
    : wk_V w mJ26_getTreeNode j 0 [(0, vR (some a0)), (1, vI x1), (2, vR a2)] [] G r := by
  refine wk_aload_n 0 dJ26_getTreeNode_0 rfl rfl ?_
  refine wk_getR 25 4 flJ26_9 rfl hk1 dJ26_getTreeNode_1 ?_
  exact wk_ifnull 14 dJ26_getTreeNode_4 (by decide) (fun h => (kt h)) (fun o9 h => (kf o9 h))
theorem blJ26_getTreeNode_7 {w : WD} {j : JB} {r : Nat} {G : GH} {a0 : Nat} {x1 : Int32} {a2 : Option Nat} {d' b' : Nat} {P : Option WV → GH → Prop} {PX : String → Nat → GH → Prop}
    (hkr : hp_kd G a0 = 25)
    (hC : wk_C w mJ26_root d' b' [vR (some a0)] G P PX)
    (hdp : d' + 1 ≤ j.1)
    (hb : b' ≤ r)
    (kr : ∀ v G', P v G' → wk_V w mJ26_getTreeNode j 11 [(1, vI x1), (2, vR a2)] (v.toList ++ []) G' (r - b'))
    (kx : ∀ E q G', PX E q G' → wk_T w mJ26_getTreeNode j 8 [(0, vR (some a0)), (1, vI x1), (2, vR a2)] G' (r - b') E q)
    : wk_V w mJ26_getTreeNode j 7 [(0, vR (some a0)), (1, vI x1), (2, vR a2)] [] G r := by
  refine wk_aload_n 0 dJ26_getTreeNode_7 rfl rfl ?_
  exact wk_callV hC rfl q1087 q1088 q1089 q149 q1090 mdJ26_root (Nat.le_of_ble_eq_true rfl) ⟨by show hp_kd G a0 ≠ 0; rw [hkr]; decide, by show hp_kd G a0 < 28; rw [hkr]; decide, by show hp_C (hp_kd G a0) = _; rw [hkr]; rfl⟩ rfl rfl (Nat.le_of_ble_eq_true rfl) hdp hb dJ26_getTreeNode_8 (fun v G' h => (wk_sub [(1, vI x1), (2, vR a2)] ⟨rfl, rfl, trivial⟩ (kr v G' h))) kx
theorem blJ26_getTreeNode_11 {w : WD} {j : JB} {r : Nat} {G : GH} {x1 : Int32} {a2 : Option Nat} {sa0 : Option Nat}
    (k : wk_V w mJ26_getTreeNode j 15 [(1, vI x1), (2, vR a2)] [vR sa0] G r)
    : wk_V w mJ26_getTreeNode j 11 [(1, vI x1), (2, vR a2)] [vR sa0] G r := by
  exact wk_goto 15 dJ26_getTreeNode_11 (by decide) k
theorem blJ26_getTreeNode_14 {w : WD} {j : JB} {r : Nat} {G : GH} {a0 : Nat} {x1 : Int32} {a2 : Option Nat}
    (k : wk_V w mJ26_getTreeNode j 15 [(1, vI x1), (2, vR a2)] [vR (some a0)] G r)
    : wk_V w mJ26_getTreeNode j 14 [(0, vR (some a0)), (1, vI x1), (2, vR a2)] [] G r := by
  refine wk_aload_n 0 dJ26_getTreeNode_14 rfl rfl ?_
  exact (wk_sub [(1, vI x1), (2, vR a2)] ⟨rfl, rfl, trivial⟩ k)
theorem blJ26_getTreeNode_15 {w : WD} {j : JB} {r : Nat} {G : GH} {x1 : Int32} {a2 : Option Nat} {sa0 : Option Nat} {o1 : Nat} {d' b' : Nat} {P : Option WV → GH → Prop} {PX : String → Nat → GH → Prop}
    (e1 : sa0 = some o1)
    (hkr : hp_kd G o1 = 25)
    (hC : wk_C w mJ26_find d' b' [vR (some o1), vI x1, vR a2, vR none] G P PX)
    (hdp : d' + 1 ≤ j.1)
    (hb : b' ≤ r)
    (kr : ∀ v G', P v G' → wk_V w mJ26_getTreeNode j 21 [] (v.toList ++ []) G' (r - b'))
    (kx : ∀ E q G', PX E q G' → wk_T w mJ26_getTreeNode j 18 [(1, vI x1), (2, vR a2)] G' (r - b') E q)
    : wk_V w mJ26_getTreeNode j 15 [(1, vI x1), (2, vR a2)] [vR sa0] G r := by
  refine wk_iload_n 1 dJ26_getTreeNode_15 rfl rfl ?_
  refine wk_aload_n 2 dJ26_getTreeNode_16 rfl rfl ?_
  refine wk_null dJ26_getTreeNode_17 ?_
  refine wk_eAt 3 e1 rfl ?_
  exact wk_callV hC rfl q1091 q1092 q1093 q149 q1094 mdJ26_find (Nat.le_of_ble_eq_true rfl) ⟨by show hp_kd G o1 ≠ 0; rw [hkr]; decide, by show hp_kd G o1 < 28; rw [hkr]; decide, by show hp_C (hp_kd G o1) = _; rw [hkr]; rfl⟩ rfl rfl (Nat.le_of_ble_eq_true rfl) hdp hb dJ26_getTreeNode_18 (fun v G' h => (wk_sub [] trivial (kr v G' h))) kx
theorem blJ26_getTreeNode_21 {w : WD} {j : JB} {r : Nat} {G : GH} {sa0 : Option Nat}
    (hP : j.2.2.1 (some (vR sa0)) G)
    : wk_V w mJ26_getTreeNode j 21 [] [vR sa0] G r := by
  exact wk_areturn rfl (Or.inl ⟨_, rfl⟩) dJ26_getTreeNode_21 hP
/-! java/util/HashMap$TreeNode.<init>(ILjava/lang/Object;Ljava/lang/Object;Ljava/util/HashMap$Node;)V -/
theorem blJ26_init_0 {w : WD} {j : JB} {r : Nat} {G : GH} {a0 : Nat} {x1 : Int32} {a2 : Option Nat} {a3 : Option Nat} {a4 : Option Nat} {d' b' : Nat} {P : Option WV → GH → Prop} {PX : String → Nat → GH → Prop}
    (hC : wk_C w mJ25_init d' b' [vR (some a0), vI x1, vR a2, vR a3, vR a4] G P PX)
    (hdp : d' + 1 ≤ j.1)
    (hb : b' ≤ r)
    (kr : ∀ v G', P v G' → wk_V w mJ26_init j 9 [] (v.toList ++ []) G' (r - b'))
    (kx : ∀ E q G', PX E q G' → wk_T w mJ26_init j 6 [(0, vR (some a0)), (1, vI x1), (2, vR a2), (3, vR a3), (4, vR a4)] G' (r - b') E q)
    : wk_V w mJ26_init j 0 [(0, vR (some a0)), (1, vI x1), (2, vR a2), (3, vR a3), (4, vR a4)] [] G r := by
  refine wk_aload_n 0 dJ26_init_0 rfl rfl ?_
  refine wk_iload_n 1 dJ26_init_1 rfl rfl ?_
  refine wk_aload_n 2 dJ26_init_2 rfl rfl ?_
  refine wk_aload_n 3 dJ26_init_3 rfl rfl ?_
  refine wk_aload dJ26_init_4 rfl ?_
  exact wk_callI hC rfl rfl rfl q1655 q1656 q148 q1657 mdJ25_init (Nat.le_of_ble_eq_true rfl) rfl rfl (Nat.le_of_ble_eq_true rfl) hdp hb dJ26_init_6 (fun v G' h => (wk_sub [] trivial (kr v G' h))) kx
theorem blJ26_init_9 {w : WD} {j : JB} {r : Nat} {G : GH}
    (hP : j.2.2.1 none G)
    : wk_V w mJ26_init j 9 [] [] G r := by
  exact wk_return rfl dJ26_init_9 hP
/-! java/util/HashMap$TreeNode.moveRootToFront([Ljava/util/HashMap$Node;Ljava/util/HashMap$TreeNode;)V -/
theorem blJ26_moveRootToFront_0 {w : WD} {j : JB} {r : Nat} {G : GH} {a0 : Option Nat} {a1 : Option Nat}
    (kt : a1 = none → wk_V w mJ26_moveRootToFront j 123 [] [] G r)
    (kf : ∀ o9, a1 = some o9 → wk_V w mJ26_moveRootToFront j 4 [(0, vR a0), (1, vR a1)] [] G r)
    : wk_V w mJ26_moveRootToFront j 0 [(0, vR a0), (1, vR a1)] [] G r := by
  refine wk_aload_n 1 dJ26_moveRootToFront_0 rfl rfl ?_
  exact wk_ifnull 123 dJ26_moveRootToFront_1 (by decide) (fun h => (wk_sub [] trivial (kt h))) (fun o9 h => (kf o9 h))
theorem blJ26_moveRootToFront_4 {w : WD} {j : JB} {r : Nat} {G : GH} {a0 : Option Nat} {a1 : Option Nat}
    (kt : a0 = none → wk_V w mJ26_moveRootToFront j 123 [] [] G r)
    (kf : ∀ o9, a0 = some o9 → wk_V w mJ26_moveRootToFront j 8 [(0, vR a0), (1, vR a1)] [] G r)
    : wk_V w mJ26_moveRootToFront j 4 [(0, vR a0), (1, vR a1)] [] G r := by
  refine wk_aload_n 0 dJ26_moveRootToFront_4 rfl rfl ?_
  exact wk_ifnull 123 dJ26_moveRootToFront_5 (by decide) (fun h => (wk_sub [] trivial (kt h))) (fun o9 h => (kf o9 h))
theorem blJ26_moveRootToFront_8 {w : WD} {j : JB} {r : Nat} {G : GH} {a0 : Option Nat} {a1 : Option Nat} {o1 : Nat}
    (e1 : a0 = some o1)
    (hk2 : 28 ≤ hp_kd G o1)
    (kt : (nI (hp_ln G o1)) ≤ 0 → wk_V w mJ26_moveRootToFront j 123 [] [] G r)
    (kf : ¬ ((nI (hp_ln G o1)) ≤ 0) → wk_V w mJ26_moveRootToFront j 15 [(0, vR a0), (1, vR a1), (2, vI (nI (hp_ln G o1)))] [] G r)
    : wk_V w mJ26_moveRootToFront j 8 [(0, vR a0), (1, vR a1)] [] G r := by
  refine wk_aload_n 0 dJ26_moveRootToFront_8 rfl rfl ?_
  refine wk_e e1 ?_
  refine wk_alen hk2 dJ26_moveRootToFront_9 ?_
  refine wk_dup dJ26_moveRootToFront_10 rfl ?_
  refine wk_istore_n 2 dJ26_moveRootToFront_11 rfl (Nat.le_of_ble_eq_true rfl) ?_
  exact wk_if_le 123 dJ26_moveRootToFront_12 (by decide) (fun h => (wk_sub [] trivial (kt h))) (fun h => (kf h))
theorem blJ26_moveRootToFront_15 {w : WD} {j : JB} {r : Nat} {G : GH} {a0 : Option Nat} {a1 : Option Nat} {x2 : Int32} {o1 : Nat} {o3 : Nat}
    (e1 : a1 = some o1)
    (hk2 : hp_kd G o1 = 25)
    (e3 : a0 = some o3)
    (hi4 : vp_in ((x2 - (1 : Int32)) &&& (hp_i G o1 0)) (hp_ln G o3))
    (hk5 : 32 ≤ hp_kd G o3)
    (hc6 : ∀ a, (hp_r G o3 ((x2 - (1 : Int32)) &&& (hp_i G o1 0)).toNatClampNeg) = some a → hp_kd G a ≠ 0 ∧ hp_kd G a < 28 ∧ hp_sub (hp_kd G a) "java/util/HashMap$TreeNode")
    (kt : a1 = (hp_r G o3 ((x2 - (1 : Int32)) &&& (hp_i G o1 0)).toNatClampNeg) → wk_V w mJ26_moveRootToFront j 102 [(1, vR a1)] [] G r)
    (kf : ¬ (a1 = (hp_r G o3 ((x2 - (1 : Int32)) &&& (hp_i G o1 0)).toNatClampNeg)) → wk_V w mJ26_moveRootToFront j 38 [(0, vR a0), (1, vR a1), (3, vI ((x2 - (1 : Int32)) &&& (hp_i G o1 0))), (4, vR (hp_r G o3 ((x2 - (1 : Int32)) &&& (hp_i G o1 0)).toNatClampNeg))] [] G r)
    : wk_V w mJ26_moveRootToFront j 15 [(0, vR a0), (1, vR a1), (2, vI x2)] [] G r := by
  refine wk_iload_n 2 dJ26_moveRootToFront_15 rfl rfl ?_
  refine wk_iconst (1 : Int32) dJ26_moveRootToFront_16 (by decide) ?_
  refine wk_isub dJ26_moveRootToFront_17 ?_
  refine wk_aload_n 1 dJ26_moveRootToFront_18 rfl rfl ?_
  refine wk_e e1 ?_
  refine wk_getI 25 0 flJ26_15 rfl hk2 dJ26_moveRootToFront_19 ?_
  refine wk_iand dJ26_moveRootToFront_22 ?_
  refine wk_istore_n 3 dJ26_moveRootToFront_23 rfl (Nat.le_of_ble_eq_true rfl) ?_
  refine wk_aload_n 0 dJ26_moveRootToFront_24 rfl rfl ?_
  refine wk_iload_n 3 dJ26_moveRootToFront_25 rfl rfl ?_
  refine wk_e2 e3 ?_
  refine wk_aald hk5 hi4 dJ26_moveRootToFront_26 ?_
  refine wk_castQ q1582 hc6 dJ26_moveRootToFront_27 ?_
  refine wk_astore dJ26_moveRootToFront_30 (Nat.le_of_ble_eq_true rfl) ?_
  refine wk_aload_n 1 dJ26_moveRootToFront_32 rfl rfl ?_
  refine wk_aload dJ26_moveRootToFront_33 rfl ?_
  exact wk_acmp_eq 102 dJ26_moveRootToFront_35 (by decide) (fun h => (wk_sub [(1, vR a1)] ⟨rfl, trivial⟩ (kt h))) (fun h => (wk_sub [(0, vR a0), (1, vR a1), (3, vI ((x2 - (1 : Int32)) &&& (hp_i G o1 0))), (4, vR (hp_r G o3 ((x2 - (1 : Int32)) &&& (hp_i G o1 0)).toNatClampNeg))] ⟨rfl, rfl, rfl, rfl, trivial⟩ (kf h)))
theorem blJ26_moveRootToFront_38 {w : WD} {j : JB} {r : Nat} {G : GH} {a0 : Option Nat} {a1 : Option Nat} {x3 : Int32} {a4 : Option Nat} {o1 : Nat} {T5 : String} {o8 : Nat}
    (e1 : a0 = some o1)
    (hi2 : vp_in x3 (hp_ln G o1))
    (hA3 : hp_A w o1)
    (hk4 : 32 ≤ hp_kd G o1)
    (hT6 : hp_at (hp_kd G o1) = .object T5)
    (hx7 : ∀ b, a1 = some b → hp_kd G b ≠ 0 ∧ hp_kd G b < 28 ∧ hp_sub (hp_kd G b) T5)
    (e8 : a1 = some o8)
    (hk9 : hp_kd G o8 = 25)
    (kt : (hp_r (hp_sR G o1 x3.toNatClampNeg a1) o8 3) = none → wk_V w mJ26_moveRootToFront j 68 [(1, vR a1), (4, vR a4), (5, vR (hp_r (hp_sR G o1 x3.toNatClampNeg a1) o8 3)), (6, vR (hp_r (hp_sR G o1 x3.toNatClampNeg a1) o8 7))] [] (hp_sR G o1 x3.toNatClampNeg a1) r)
    (kf : ∀ o9, (hp_r (hp_sR G o1 x3.toNatClampNeg a1) o8 3) = some o9 → wk_V w mJ26_moveRootToFront j 58 [(1, vR a1), (4, vR a4), (5, vR (hp_r (hp_sR G o1 x3.toNatClampNeg a1) o8 3)), (6, vR (hp_r (hp_sR G o1 x3.toNatClampNeg a1) o8 7))] [] (hp_sR G o1 x3.toNatClampNeg a1) r)
    : wk_V w mJ26_moveRootToFront j 38 [(0, vR a0), (1, vR a1), (3, vI x3), (4, vR a4)] [] G r := by
  refine wk_aload_n 0 dJ26_moveRootToFront_38 rfl rfl ?_
  refine wk_iload_n 3 dJ26_moveRootToFront_39 rfl rfl ?_
  refine wk_aload_n 1 dJ26_moveRootToFront_40 rfl rfl ?_
  refine wk_e3 e1 ?_
  refine wk_aast hk4 hT6 hA3 hi2 hx7 dJ26_moveRootToFront_41 ?_
  refine wk_aload_n 1 dJ26_moveRootToFront_42 rfl rfl ?_
  refine wk_e e8 ?_
  refine wk_getR 25 7 flJ26_19 rfl hk9 dJ26_moveRootToFront_43 ?_
  refine wk_astore dJ26_moveRootToFront_46 (Nat.le_of_ble_eq_true rfl) ?_
  refine wk_aload_n 1 dJ26_moveRootToFront_48 rfl rfl ?_
  refine wk_e e8 ?_
  refine wk_getR 25 3 flJ26_22 rfl hk9 dJ26_moveRootToFront_49 ?_
  refine wk_dup dJ26_moveRootToFront_52 rfl ?_
  refine wk_astore dJ26_moveRootToFront_53 (Nat.le_of_ble_eq_true rfl) ?_
  exact wk_ifnull 68 dJ26_moveRootToFront_55 (by decide) (fun h => (wk_sub [(1, vR a1), (4, vR a4), (5, vR (hp_r (hp_sR G o1 x3.toNatClampNeg a1) o8 3)), (6, vR (hp_r (hp_sR G o1 x3.toNatClampNeg a1) o8 7))] ⟨rfl, rfl, rfl, rfl, trivial⟩ (kt h))) (fun o9 h => (wk_sub [(1, vR a1), (4, vR a4), (5, vR (hp_r (hp_sR G o1 x3.toNatClampNeg a1) o8 3)), (6, vR (hp_r (hp_sR G o1 x3.toNatClampNeg a1) o8 7))] ⟨rfl, rfl, rfl, rfl, trivial⟩ (kf o9 h)))
theorem blJ26_moveRootToFront_58 {w : WD} {j : JB} {r : Nat} {G : GH} {a1 : Option Nat} {a4 : Option Nat} {a5 : Option Nat} {a6 : Option Nat} {o2 : Nat}
    (hc1 : ∀ a, a5 = some a → hp_kd G a ≠ 0 ∧ hp_kd G a < 28 ∧ hp_sub (hp_kd G a) "java/util/HashMap$TreeNode")
    (e2 : a5 = some o2)
    (hk3 : hp_kd G o2 = 25)
    (hA4 : hp_A w o2)
    (k : wk_V w mJ26_moveRootToFront j 68 [(1, vR a1), (4, vR a4), (5, vR a5), (6, vR a6)] [] (hp_sR G o2 7 a6) r)
    : wk_V w mJ26_moveRootToFront j 58 [(1, vR a1), (4, vR a4), (5, vR a5), (6, vR a6)] [] G r := by
  refine wk_aload dJ26_moveRootToFront_58 rfl ?_
  refine wk_castQ q1582 hc1 dJ26_moveRootToFront_60 ?_
  refine wk_aload dJ26_moveRootToFront_63 rfl ?_
  refine wk_e2 e2 ?_
  refine wk_putR 25 7 flJ26_19 rfl (Or.inl rfl) hk3 hA4 dJ26_moveRootToFront_65 ?_
  exact k
theorem blJ26_moveRootToFront_68 {w : WD} {j : JB} {r : Nat} {G : GH} {a1 : Option Nat} {a4 : Option Nat} {a5 : Option Nat} {a6 : Option Nat}
    (kt : a6 = none → wk_V w mJ26_moveRootToFront j 80 [(1, vR a1), (4, vR a4)] [] G r)
    (kf : ∀ o9, a6 = some o9 → wk_V w mJ26_moveRootToFront j 73 [(1, vR a1), (4, vR a4), (5, vR a5), (6, vR a6)] [] G r)
    : wk_V w mJ26_moveRootToFront j 68 [(1, vR a1), (4, vR a4), (5, vR a5), (6, vR a6)] [] G r := by
  refine wk_aload dJ26_moveRootToFront_68 rfl ?_
  exact wk_ifnull 80 dJ26_moveRootToFront_70 (by decide) (fun h => (wk_sub [(1, vR a1), (4, vR a4)] ⟨rfl, rfl, trivial⟩ (kt h))) (fun o9 h => (kf o9 h))
theorem blJ26_moveRootToFront_73 {w : WD} {j : JB} {r : Nat} {G : GH} {a1 : Option Nat} {a4 : Option Nat} {a5 : Option Nat} {a6 : Option Nat} {o1 : Nat}
    (e1 : a6 = some o1)
    (hk2 : hp_kd G o1 = 25)
    (hA3 : hp_A w o1)
    (k : wk_V w mJ26_moveRootToFront j 80 [(1, vR a1), (4, vR a4)] [] (hp_sR G o1 3 a5) r)
    : wk_V w mJ26_moveRootToFront j 73 [(1, vR a1), (4, vR a4), (5, vR a5), (6, vR a6)] [] G r := by
  refine wk_aload dJ26_moveRootToFront_73 rfl ?_
  refine wk_aload dJ26_moveRootToFront_75 rfl ?_
  refine wk_e2 e1 ?_
  refine wk_putR 25 3 flJ26_22 rfl (Or.inl rfl) hk2 hA3 dJ26_moveRootToFront_77 ?_
  exact (wk_sub [(1, vR a1), (4, vR a4)] ⟨rfl, rfl, trivial⟩ k)
theorem blJ26_moveRootToFront_80 {w : WD} {j : JB} {r : Nat} {G : GH} {a1 : Option Nat} {a4 : Option Nat}
    (kt : a4 = none → wk_V w mJ26_moveRootToFront j 91 [(1, vR a1), (4, vR a4)] [] G r)
    (kf : ∀ o9, a4 = some o9 → wk_V w mJ26_moveRootToFront j 85 [(1, vR a1), (4, vR a4)] [] G r)
    : wk_V w mJ26_moveRootToFront j 80 [(1, vR a1), (4, vR a4)] [] G r := by
  refine wk_aload dJ26_moveRootToFront_80 rfl ?_
  exact wk_ifnull 91 dJ26_moveRootToFront_82 (by decide) (fun h => (kt h)) (fun o9 h => (kf o9 h))
theorem blJ26_moveRootToFront_85 {w : WD} {j : JB} {r : Nat} {G : GH} {a1 : Option Nat} {a4 : Option Nat} {o1 : Nat}
    (e1 : a4 = some o1)
    (hk2 : hp_kd G o1 = 25)
    (hA3 : hp_A w o1)
    (k : wk_V w mJ26_moveRootToFront j 91 [(1, vR a1), (4, vR a4)] [] (hp_sR G o1 7 a1) r)
    : wk_V w mJ26_moveRootToFront j 85 [(1, vR a1), (4, vR a4)] [] G r := by
  refine wk_aload dJ26_moveRootToFront_85 rfl ?_
  refine wk_aload_n 1 dJ26_moveRootToFront_87 rfl rfl ?_
  refine wk_e2 e1 ?_
  refine wk_putR 25 7 flJ26_19 rfl (Or.inl rfl) hk2 hA3 dJ26_moveRootToFront_88 ?_
  exact k
theorem blJ26_moveRootToFront_91 {w : WD} {j : JB} {r : Nat} {G : GH} {a1 : Option Nat} {a4 : Option Nat} {o1 : Nat}
    (e1 : a1 = some o1)
    (hk2 : hp_kd G o1 = 25)
    (hA3 : hp_A w o1)
    (k : wk_V w mJ26_moveRootToFront j 102 [(1, vR a1)] [] (hp_sR (hp_sR G o1 3 a4) o1 7 none) r)
    : wk_V w mJ26_moveRootToFront j 91 [(1, vR a1), (4, vR a4)] [] G r := by
  refine wk_aload_n 1 dJ26_moveRootToFront_91 rfl rfl ?_
  refine wk_aload dJ26_moveRootToFront_92 rfl ?_
  refine wk_e2 e1 ?_
  refine wk_putR 25 3 flJ26_22 rfl (Or.inl rfl) hk2 hA3 dJ26_moveRootToFront_94 ?_
  refine wk_aload_n 1 dJ26_moveRootToFront_97 rfl rfl ?_
  refine wk_null dJ26_moveRootToFront_98 ?_
  refine wk_e2 e1 ?_
  refine wk_putR 25 7 flJ26_19 rfl (Or.inl rfl) hk2 hA3 dJ26_moveRootToFront_99 ?_
  exact (wk_sub [(1, vR a1)] ⟨rfl, trivial⟩ k)
theorem blJ26_moveRootToFront_102 {w : WD} {j : JB} {r : Nat} {G : GH} {a1 : Option Nat}
    (kt : ¬ ((1 : Int32) = 0) → wk_V w mJ26_moveRootToFront j 123 [] [] G r)
    (kf : (1 : Int32) = 0 → wk_V w mJ26_moveRootToFront j 108 [(1, vR a1)] [] G r)
    : wk_V w mJ26_moveRootToFront j 102 [(1, vR a1)] [] G r := by
  refine wk_getsI (C := "java/util/HashMap$TreeNode") (n := "$assertionsDisabled") (d := "Z") (1 : Int32) (by decide +kernel) q1637 dJ26_moveRootToFront_102 ?_
  exact wk_if_ne 123 dJ26_moveRootToFront_105 (by decide) (fun h => (wk_sub [] trivial (kt h))) (fun h => (kf h))
-- blJ26_moveRootToFront_108: left out (call without a link)
theorem blJ26_moveRootToFront_123 {w : WD} {j : JB} {r : Nat} {G : GH}
    (hP : j.2.2.1 none G)
    : wk_V w mJ26_moveRootToFront j 123 [] [] G r := by
  exact wk_return rfl dJ26_moveRootToFront_123 hP
/-! java/util/HashMap$TreeNode.putTreeVal(Ljava/util/HashMap;[Ljava/util/HashMap$Node;ILjava/lang/Object;Ljava/lang/Object;)Ljava/util/HashMap$TreeNode; -/
theorem blJ26_putTreeVal_0 {w : WD} {j : JB} {r : Nat} {G : GH} {a0 : Nat} {a1 : Option Nat} {a2 : Option Nat} {x3 : Int32} {a4 : Option Nat} {a5 : Option Nat}
    (hk1 : hp_kd G a0 = 25)
    (kt : (hp_r G a0 4) = none → wk_V w mJ26_putTreeVal j 20 [(0, vR (some a0)), (1, vR a1), (2, vR a2), (3, vI x3), (4, vR a4), (5, vR a5), (6, vR none), (7, vI (0 : Int32))] [] G r)
    (kf : ∀ o9, (hp_r G a0 4) = some o9 → wk_V w mJ26_putTreeVal j 13 [(0, vR (some a0)), (1, vR a1), (2, vR a2), (3, vI x3), (4, vR a4), (5, vR a5), (6, vR none), (7, vI (0 : Int32))] [] G r)
    : wk_V w mJ26_putTreeVal j 0 [(0, vR (some a0)), (1, vR a1), (2, vR a2), (3, vI x3), (4, vR a4), (5, vR a5)] [] G r := by
  refine wk_null dJ26_putTreeVal_0 ?_
  refine wk_astore dJ26_putTreeVal_1 (Nat.le_of_ble_eq_true rfl) ?_
  refine wk_iconst (0 : Int32) dJ26_putTreeVal_3 (by decide) ?_
  refine wk_istore dJ26_putTreeVal_4 (Nat.le_of_ble_eq_true rfl) ?_
  refine wk_aload_n 0 dJ26_putTreeVal_6 rfl rfl ?_
  refine wk_getR 25 4 flJ26_9 rfl hk1 dJ26_putTreeVal_7 ?_
  exact wk_ifnull 20 dJ26_putTreeVal_10 (by decide) (fun h => (kt h)) (fun o9 h => (kf o9 h))
theorem blJ26_putTreeVal_13 {w : WD} {j : JB} {r : Nat} {G : GH} {a0 : Nat} {a1 : Option Nat} {a2 : Option Nat} {x3 : Int32} {a4 : Option Nat} {a5 : Option Nat} {a6 : Option Nat} {x7 : Int32} {d' b' : Nat} {P : Option WV → GH → Prop} {PX : String → Nat → GH → Prop}
    (hkr : hp_kd G a0 = 25)
    (hC : wk_C w mJ26_root d' b' [vR (some a0)] G P PX)
    (hdp : d' + 1 ≤ j.1)
    (hb : b' ≤ r)
    (kr : ∀ v G', P v G' → wk_V w mJ26_putTreeVal j 17 [(1, vR a1), (2, vR a2), (3, vI x3), (4, vR a4), (5, vR a5), (6, vR a6), (7, vI x7)] (v.toList ++ []) G' (r - b'))
    (kx : ∀ E q G', PX E q G' → wk_T w mJ26_putTreeVal j 14 [(0, vR (some a0)), (1, vR a1), (2, vR a2), (3, vI x3), (4, vR a4), (5, vR a5), (6, vR a6), (7, vI x7)] G' (r - b') E q)
    : wk_V w mJ26_putTreeVal j 13 [(0, vR (some a0)), (1, vR a1), (2, vR a2), (3, vI x3), (4, vR a4), (5, vR a5), (6, vR a6), (7, vI x7)] [] G r := by
  refine wk_aload_n 0 dJ26_putTreeVal_13 rfl rfl ?_
  exact wk_callV hC rfl q1087 q1088 q1089 q149 q1090 mdJ26_root (Nat.le_of_ble_eq_true rfl) ⟨by show hp_kd G a0 ≠ 0; rw [hkr]; decide, by show hp_kd G a0 < 28; rw [hkr]; decide, by show hp_C (hp_kd G a0) = _; rw [hkr]; rfl⟩ rfl rfl (Nat.le_of_ble_eq_true rfl) hdp hb dJ26_putTreeVal_14 (fun v G' h => (wk_sub [(1, vR a1), (2, vR a2), (3, vI x3), (4, vR a4), (5, vR a5), (6, vR a6), (7, vI x7)] ⟨rfl, rfl, rfl, rfl, rfl, rfl, rfl, trivial⟩ (kr v G' h))) kx
theorem blJ26_putTreeVal_17 {w : WD} {j : JB} {r : Nat} {G : GH} {a1 : Option Nat} {a2 : Option Nat} {x3 : Int32} {a4 : Option Nat} {a5 : Option Nat} {a6 : Option Nat} {x7 : Int32} {sa0 : Option Nat}
    (k : wk_V w mJ26_putTreeVal j 21 [(1, vR a1), (2, vR a2), (3, vI x3), (4, vR a4), (5, vR a5), (6, vR a6), (7, vI x7)] [vR sa0] G r)
    : wk_V w mJ26_putTreeVal j 17 [(1, vR a1), (2, vR a2), (3, vI x3), (4, vR a4), (5, vR a5), (6, vR a6), (7, vI x7)] [vR sa0] G r := by
  exact wk_goto 21 dJ26_putTreeVal_17 (by decide) k
theorem blJ26_putTreeVal_20 {w : WD} {j : JB} {r : Nat} {G : GH} {a0 : Nat} {a1 : Option Nat} {a2 : Option Nat} {x3 : Int32} {a4 : Option Nat} {a5 : Option Nat} {a6 : Option Nat} {x7 : Int32}
    (k : wk_V w mJ26_putTreeVal j 21 [(1, vR a1), (2, vR a2), (3, vI x3), (4, vR a4), (5, vR a5), (6, vR a6), (7, vI x7)] [vR (some a0)] G r)
    : wk_V w mJ26_putTreeVal j 20 [(0, vR (some a0)), (1, vR a1), (2, vR a2), (3, vI x3), (4, vR a4), (5, vR a5), (6, vR a6), (7, vI x7)] [] G r := by
  refine wk_aload_n 0 dJ26_putTreeVal_20 rfl rfl ?_
  exact (wk_sub [(1, vR a1), (2, vR a2), (3, vI x3), (4, vR a4), (5, vR a5), (6, vR a6), (7, vI x7)] ⟨rfl, rfl, rfl, rfl, rfl, rfl, rfl, trivial⟩ k)
theorem blJ26_putTreeVal_21 {w : WD} {j : JB} {r : Nat} {G : GH} {a1 : Option Nat} {a2 : Option Nat} {x3 : Int32} {a4 : Option Nat} {a5 : Option Nat} {a6 : Option Nat} {x7 : Int32} {sa0 : Option Nat}
    (k : wk_V w mJ26_putTreeVal j 27 [(1, vR a1), (2, vR a2), (3, vI x3), (4, vR a4), (5, vR a5), (6, vR a6), (7, vI x7), (8, vR sa0), (9, vR sa0)] [] G r)
    : wk_V w mJ26_putTreeVal j 21 [(1, vR a1), (2, vR a2), (3, vI x3), (4, vR a4), (5, vR a5), (6, vR a6), (7, vI x7)] [vR sa0] G r := by
  refine wk_astore dJ26_putTreeVal_21 (Nat.le_of_ble_eq_true rfl) ?_
  refine wk_aload dJ26_putTreeVal_23 rfl ?_
  refine wk_astore dJ26_putTreeVal_25 (Nat.le_of_ble_eq_true rfl) ?_
  exact k
theorem blJ26_putTreeVal_27 {w : WD} {j : JB} {r : Nat} {G : GH} {a1 : Option Nat} {a2 : Option Nat} {x3 : Int32} {a4 : Option Nat} {a5 : Option Nat} {a6 : Option Nat} {x7 : Int32} {a8 : Option Nat} {a9 : Option Nat} {o1 : Nat}
    (e1 : a9 = some o1)
    (hk2 : hp_kd G o1 = 25)
    (kt : (hp_i G o1 0) ≤ x3 → wk_V w mJ26_putTreeVal j 45 [(1, vR a1), (2, vR a2), (3, vI x3), (4, vR a4), (5, vR a5), (6, vR a6), (7, vI x7), (8, vR a8), (9, vR a9), (11, vI (hp_i G o1 0))] [] G r)
    (kf : ¬ ((hp_i G o1 0) ≤ x3) → wk_V w mJ26_putTreeVal j 39 [(1, vR a1), (2, vR a2), (3, vI x3), (4, vR a4), (5, vR a5), (6, vR a6), (7, vI x7), (8, vR a8), (9, vR a9)] [] G r)
    : wk_V w mJ26_putTreeVal j 27 [(1, vR a1), (2, vR a2), (3, vI x3), (4, vR a4), (5, vR a5), (6, vR a6), (7, vI x7), (8, vR a8), (9, vR a9)] [] G r := by
  refine wk_aload dJ26_putTreeVal_27 rfl ?_
  refine wk_e e1 ?_
  refine wk_getI 25 0 flJ26_15 rfl hk2 dJ26_putTreeVal_29 ?_
  refine wk_dup dJ26_putTreeVal_32 rfl ?_
  refine wk_istore dJ26_putTreeVal_33 (Nat.le_of_ble_eq_true rfl) ?_
  refine wk_iload_n 3 dJ26_putTreeVal_35 rfl rfl ?_
  exact wk_icmp_le 45 dJ26_putTreeVal_36 (by decide) (fun h => (kt h)) (fun h => (wk_sub [(1, vR a1), (2, vR a2), (3, vI x3), (4, vR a4), (5, vR a5), (6, vR a6), (7, vI x7), (8, vR a8), (9, vR a9)] ⟨rfl, rfl, rfl, rfl, rfl, rfl, rfl, rfl, rfl, trivial⟩ (kf h)))
theorem blJ26_putTreeVal_39 {w : WD} {j : JB} {r : Nat} {G : GH} {a1 : Option Nat} {a2 : Option Nat} {x3 : Int32} {a4 : Option Nat} {a5 : Option Nat} {a6 : Option Nat} {x7 : Int32} {a8 : Option Nat} {a9 : Option Nat}
    (k : wk_V w mJ26_putTreeVal j 193 [(1, vR a1), (2, vR a2), (3, vI x3), (4, vR a4), (5, vR a5), (6, vR a6), (7, vI x7), (8, vR a8), (9, vR a9), (10, vI (-1 : Int32))] [] G r)
    : wk_V w mJ26_putTreeVal j 39 [(1, vR a1), (2, vR a2), (3, vI x3), (4, vR a4), (5, vR a5), (6, vR a6), (7, vI x7), (8, vR a8), (9, vR a9)] [] G r := by
  refine wk_iconst (-1 : Int32) dJ26_putTreeVal_39 (by decide) ?_
  refine wk_istore dJ26_putTreeVal_40 (Nat.le_of_ble_eq_true rfl) ?_
  exact wk_goto 193 dJ26_putTreeVal_42 (by decide) k
theorem blJ26_putTreeVal_45 {w : WD} {j : JB} {r : Nat} {G : GH} {a1 : Option Nat} {a2 : Option Nat} {x3 : Int32} {a4 : Option Nat} {a5 : Option Nat} {a6 : Option Nat} {x7 : Int32} {a8 : Option Nat} {a9 : Option Nat} {x11 : Int32}
    (kt : x3 ≤ x11 → wk_V w mJ26_putTreeVal j 57 [(1, vR a1), (2, vR a2), (3, vI x3), (4, vR a4), (5, vR a5), (6, vR a6), (7, vI x7), (8, vR a8), (9, vR a9)] [] G r)
    (kf : ¬ (x3 ≤ x11) → wk_V w mJ26_putTreeVal j 51 [(1, vR a1), (2, vR a2), (3, vI x3), (4, vR a4), (5, vR a5), (6, vR a6), (7, vI x7), (8, vR a8), (9, vR a9)] [] G r)
    : wk_V w mJ26_putTreeVal j 45 [(1, vR a1), (2, vR a2), (3, vI x3), (4, vR a4), (5, vR a5), (6, vR a6), (7, vI x7), (8, vR a8), (9, vR a9), (11, vI x11)] [] G r := by
  refine wk_iload dJ26_putTreeVal_45 rfl ?_
  refine wk_iload_n 3 dJ26_putTreeVal_47 rfl rfl ?_
  exact wk_icmp_ge 57 dJ26_putTreeVal_48 (by decide) (fun h => (wk_sub [(1, vR a1), (2, vR a2), (3, vI x3), (4, vR a4), (5, vR a5), (6, vR a6), (7, vI x7), (8, vR a8), (9, vR a9)] ⟨rfl, rfl, rfl, rfl, rfl, rfl, rfl, rfl, rfl, trivial⟩ (kt h))) (fun h => (wk_sub [(1, vR a1), (2, vR a2), (3, vI x3), (4, vR a4), (5, vR a5), (6, vR a6), (7, vI x7), (8, vR a8), (9, vR a9)] ⟨rfl, rfl, rfl, rfl, rfl, rfl, rfl, rfl, rfl, trivial⟩ (kf h)))
theorem blJ26_putTreeVal_51 {w : WD} {j : JB} {r : Nat} {G : GH} {a1 : Option Nat} {a2 : Option Nat} {x3 : Int32} {a4 : Option Nat} {a5 : Option Nat} {a6 : Option Nat} {x7 : Int32} {a8 : Option Nat} {a9 : Option Nat}
    (k : wk_V w mJ26_putTreeVal j 193 [(1, vR a1), (2, vR a2), (3, vI x3), (4, vR a4), (5, vR a5), (6, vR a6), (7, vI x7), (8, vR a8), (9, vR a9), (10, vI (1 : Int32))] [] G r)
    : wk_V w mJ26_putTreeVal j 51 [(1, vR a1), (2, vR a2), (3, vI x3), (4, vR a4), (5, vR a5), (6, vR a6), (7, vI x7), (8, vR a8), (9, vR a9)] [] G r := by
  refine wk_iconst (1 : Int32) dJ26_putTreeVal_51 (by decide) ?_
  refine wk_istore dJ26_putTreeVal_52 (Nat.le_of_ble_eq_true rfl) ?_
  exact wk_goto 193 dJ26_putTreeVal_54 (by decide) k
theorem blJ26_putTreeVal_57 {w : WD} {j : JB} {r : Nat} {G : GH} {a1 : Option Nat} {a2 : Option Nat} {x3 : Int32} {a4 : Option Nat} {a5 : Option Nat} {a6 : Option Nat} {x7 : Int32} {a8 : Option Nat} {a9 : Option Nat} {o1 : Nat}
    (e1 : a9 = some o1)
    (hk2 : hp_kd G o1 = 25)
    (kt : (hp_r G o1 1) = a4 → wk_V w mJ26_putTreeVal j 85 [(9, vR a9)] [] G r)
    (kf : ¬ ((hp_r G o1 1) = a4) → wk_V w mJ26_putTreeVal j 70 [(1, vR a1), (2, vR a2), (3, vI x3), (4, vR a4), (5, vR a5), (6, vR a6), (7, vI x7), (8, vR a8), (9, vR a9), (12, vR (hp_r G o1 1))] [] G r)
    : wk_V w mJ26_putTreeVal j 57 [(1, vR a1), (2, vR a2), (3, vI x3), (4, vR a4), (5, vR a5), (6, vR a6), (7, vI x7), (8, vR a8), (9, vR a9)] [] G r := by
  refine wk_aload dJ26_putTreeVal_57 rfl ?_
  refine wk_e e1 ?_
  refine wk_getR 25 1 flJ26_45 rfl hk2 dJ26_putTreeVal_59 ?_
  refine wk_dup dJ26_putTreeVal_62 rfl ?_
  refine wk_astore dJ26_putTreeVal_63 (Nat.le_of_ble_eq_true rfl) ?_
  refine wk_aload dJ26_putTreeVal_65 rfl ?_
  exact wk_acmp_eq 85 dJ26_putTreeVal_67 (by decide) (fun h => (wk_sub [(9, vR a9)] ⟨rfl, trivial⟩ (kt h))) (fun h => (kf h))
theorem blJ26_putTreeVal_70 {w : WD} {j : JB} {r : Nat} {G : GH} {a1 : Option Nat} {a2 : Option Nat} {x3 : Int32} {a4 : Option Nat} {a5 : Option Nat} {a6 : Option Nat} {x7 : Int32} {a8 : Option Nat} {a9 : Option Nat} {a12 : Option Nat}
    (kt : a4 = none → wk_V w mJ26_putTreeVal j 88 [(1, vR a1), (2, vR a2), (3, vI x3), (4, vR a4), (5, vR a5), (6, vR a6), (7, vI x7), (8, vR a8), (9, vR a9), (12, vR a12)] [] G r)
    (kf : ∀ o9, a4 = some o9 → wk_V w mJ26_putTreeVal j 75 [(1, vR a1), (2, vR a2), (3, vI x3), (4, vR a4), (5, vR a5), (6, vR a6), (7, vI x7), (8, vR a8), (9, vR a9), (12, vR a12)] [] G r)
    : wk_V w mJ26_putTreeVal j 70 [(1, vR a1), (2, vR a2), (3, vI x3), (4, vR a4), (5, vR a5), (6, vR a6), (7, vI x7), (8, vR a8), (9, vR a9), (12, vR a12)] [] G r := by
  refine wk_aload dJ26_putTreeVal_70 rfl ?_
  exact wk_ifnull 88 dJ26_putTreeVal_72 (by decide) (fun h => (kt h)) (fun o9 h => (kf o9 h))
theorem blJ26_putTreeVal_75_k2 {w : WD} {j : JB} {r : Nat} {G : GH} {a1 : Option Nat} {a2 : Option Nat} {x3 : Int32} {a4 : Option Nat} {a5 : Option Nat} {a6 : Option Nat} {x7 : Int32} {a8 : Option Nat} {a9 : Option Nat} {a12 : Option Nat} {o1 : Nat} {d' b' : Nat} {P : Option WV → GH → Prop} {PX : String → Nat → GH → Prop}
    (e1 : a4 = some o1)
    (hkr : hp_kd G o1 = 2)
    (hC : wk_C w mJ28_equals d' b' [vR (some o1), vR a12] G P PX)
    (hdp : d' + 1 ≤ j.1)
    (hb : b' ≤ r)
    (kr : ∀ v G', P v G' → wk_V w mJ26_putTreeVal j 82 [(1, vR a1), (2, vR a2), (3, vI x3), (4, vR a4), (5, vR a5), (6, vR a6), (7, vI x7), (8, vR a8), (9, vR a9), (12, vR a12)] (v.toList ++ []) G' (r - b'))
    (kx : ∀ E q G', PX E q G' → wk_T w mJ26_putTreeVal j 79 [(1, vR a1), (2, vR a2), (3, vI x3), (4, vR a4), (5, vR a5), (6, vR a6), (7, vI x7), (8, vR a8), (9, vR a9), (12, vR a12)] G' (r - b') E q)
    : wk_V w mJ26_putTreeVal j 75 [(1, vR a1), (2, vR a2), (3, vI x3), (4, vR a4), (5, vR a5), (6, vR a6), (7, vI x7), (8, vR a8), (9, vR a9), (12, vR a12)] [] G r := by
  refine wk_aload dJ26_putTreeVal_75 rfl ?_
  refine wk_aload dJ26_putTreeVal_77 rfl ?_
  refine wk_eAt 1 e1 rfl ?_
  exact wk_callU (n := 1) (x := ⟨"java/lang/Object", "equals", "(Ljava/lang/Object;)Z"⟩) "java/lang/Object" hC rfl (Or.inl (by decide +kernel)) q1095 q1049 q1048 (by show Cond.selects (hp_C (hp_kd G o1)) _ _ ∈ lw_all; rw [hkr]; exact q1050) q3225 q1081 (by decide +kernel) (Nat.le_of_ble_eq_true rfl) ⟨by show hp_kd G o1 ≠ 0; rw [hkr]; decide, by show hp_kd G o1 < 28; rw [hkr]; decide⟩ rfl rfl (Nat.le_of_ble_eq_true rfl) hdp hb dJ26_putTreeVal_79 kr kx
theorem blJ26_putTreeVal_75_k5 {w : WD} {j : JB} {r : Nat} {G : GH} {a1 : Option Nat} {a2 : Option Nat} {x3 : Int32} {a4 : Option Nat} {a5 : Option Nat} {a6 : Option Nat} {x7 : Int32} {a8 : Option Nat} {a9 : Option Nat} {a12 : Option Nat} {o1 : Nat} {d' b' : Nat} {P : Option WV → GH → Prop} {PX : String → Nat → GH → Prop}
    (e1 : a4 = some o1)
    (hkr : hp_kd G o1 = 5)
    (hC : wk_C w mJ28_equals d' b' [vR (some o1), vR a12] G P PX)
    (hdp : d' + 1 ≤ j.1)
    (hb : b' ≤ r)
    (kr : ∀ v G', P v G' → wk_V w mJ26_putTreeVal j 82 [(1, vR a1), (2, vR a2), (3, vI x3), (4, vR a4), (5, vR a5), (6, vR a6), (7, vI x7), (8, vR a8), (9, vR a9), (12, vR a12)] (v.toList ++ []) G' (r - b'))
    (kx : ∀ E q G', PX E q G' → wk_T w mJ26_putTreeVal j 79 [(1, vR a1), (2, vR a2), (3, vI x3), (4, vR a4), (5, vR a5), (6, vR a6), (7, vI x7), (8, vR a8), (9, vR a9), (12, vR a12)] G' (r - b') E q)
    : wk_V w mJ26_putTreeVal j 75 [(1, vR a1), (2, vR a2), (3, vI x3), (4, vR a4), (5, vR a5), (6, vR a6), (7, vI x7), (8, vR a8), (9, vR a9), (12, vR a12)] [] G r := by
  refine wk_aload dJ26_putTreeVal_75 rfl ?_
  refine wk_aload dJ26_putTreeVal_77 rfl ?_
  refine wk_eAt 1 e1 rfl ?_
  exact wk_callU (n := 1) (x := ⟨"java/lang/Object", "equals", "(Ljava/lang/Object;)Z"⟩) "java/lang/Object" hC rfl (Or.inl (by decide +kernel)) q1095 q1049 q1048 (by show Cond.selects (hp_C (hp_kd G o1)) _ _ ∈ lw_all; rw [hkr]; exact q1051) q3225 q1081 (by decide +kernel) (Nat.le_of_ble_eq_true rfl) ⟨by show hp_kd G o1 ≠ 0; rw [hkr]; decide, by show hp_kd G o1 < 28; rw [hkr]; decide⟩ rfl rfl (Nat.le_of_ble_eq_true rfl) hdp hb dJ26_putTreeVal_79 kr kx
theorem blJ26_putTreeVal_75_k18 {w : WD} {j : JB} {r : Nat} {G : GH} {a1 : Option Nat} {a2 : Option Nat} {x3 : Int32} {a4 : Option Nat} {a5 : Option Nat} {a6 : Option Nat} {x7 : Int32} {a8 : Option Nat} {a9 : Option Nat} {a12 : Option Nat} {o1 : Nat} {d' b' : Nat} {P : Option WV → GH → Prop} {PX : String → Nat → GH → Prop}
    (e1 : a4 = some o1)
    (hkr : hp_kd G o1 = 18)
    (hC : wk_C w mJ28_equals d' b' [vR (some o1), vR a12] G P PX)
    (hdp : d' + 1 ≤ j.1)
    (hb : b' ≤ r)
    (kr : ∀ v G', P v G' → wk_V w mJ26_putTreeVal j 82 [(1, vR a1), (2, vR a2), (3, vI x3), (4, vR a4), (5, vR a5), (6, vR a6), (7, vI x7), (8, vR a8), (9, vR a9), (12, vR a12)] (v.toList ++ []) G' (r - b'))
    (kx : ∀ E q G', PX E q G' → wk_T w mJ26_putTreeVal j 79 [(1, vR a1), (2, vR a2), (3, vI x3), (4, vR a4), (5, vR a5), (6, vR a6), (7, vI x7), (8, vR a8), (9, vR a9), (12, vR a12)] G' (r - b') E q)
    : wk_V w mJ26_putTreeVal j 75 [(1, vR a1), (2, vR a2), (3, vI x3), (4, vR a4), (5, vR a5), (6, vR a6), (7, vI x7), (8, vR a8), (9, vR a9), (12, vR a12)] [] G r := by
  refine wk_aload dJ26_putTreeVal_75 rfl ?_
  refine wk_aload dJ26_putTreeVal_77 rfl ?_
  refine wk_eAt 1 e1 rfl ?_
  exact wk_callU (n := 1) (x := ⟨"java/lang/Object", "equals", "(Ljava/lang/Object;)Z"⟩) "java/lang/Object" hC rfl (Or.inl (by decide +kernel)) q1095 q1049 q1048 (by show Cond.selects (hp_C (hp_kd G o1)) _ _ ∈ lw_all; rw [hkr]; exact q1052) q3225 q1081 (by decide +kernel) (Nat.le_of_ble_eq_true rfl) ⟨by show hp_kd G o1 ≠ 0; rw [hkr]; decide, by show hp_kd G o1 < 28; rw [hkr]; decide⟩ rfl rfl (Nat.le_of_ble_eq_true rfl) hdp hb dJ26_putTreeVal_79 kr kx
theorem blJ26_putTreeVal_75_k21 {w : WD} {j : JB} {r : Nat} {G : GH} {a1 : Option Nat} {a2 : Option Nat} {x3 : Int32} {a4 : Option Nat} {a5 : Option Nat} {a6 : Option Nat} {x7 : Int32} {a8 : Option Nat} {a9 : Option Nat} {a12 : Option Nat} {o1 : Nat} {d' b' : Nat} {P : Option WV → GH → Prop} {PX : String → Nat → GH → Prop}
    (e1 : a4 = some o1)
    (hkr : hp_kd G o1 = 21)
    (hC : wk_C w mJ28_equals d' b' [vR (some o1), vR a12] G P PX)
    (hdp : d' + 1 ≤ j.1)
    (hb : b' ≤ r)
    (kr : ∀ v G', P v G' → wk_V w mJ26_putTreeVal j 82 [(1, vR a1), (2, vR a2), (3, vI x3), (4, vR a4), (5, vR a5), (6, vR a6), (7, vI x7), (8, vR a8), (9, vR a9), (12, vR a12)] (v.toList ++ []) G' (r - b'))
    (kx : ∀ E q G', PX E q G' → wk_T w mJ26_putTreeVal j 79 [(1, vR a1), (2, vR a2), (3, vI x3), (4, vR a4), (5, vR a5), (6, vR a6), (7, vI x7), (8, vR a8), (9, vR a9), (12, vR a12)] G' (r - b') E q)
    : wk_V w mJ26_putTreeVal j 75 [(1, vR a1), (2, vR a2), (3, vI x3), (4, vR a4), (5, vR a5), (6, vR a6), (7, vI x7), (8, vR a8), (9, vR a9), (12, vR a12)] [] G r := by
  refine wk_aload dJ26_putTreeVal_75 rfl ?_
  refine wk_aload dJ26_putTreeVal_77 rfl ?_
  refine wk_eAt 1 e1 rfl ?_
  exact wk_callU (n := 1) (x := ⟨"java/lang/Object", "equals", "(Ljava/lang/Object;)Z"⟩) "java/lang/Object" hC rfl (Or.inl (by decide +kernel)) q1095 q1049 q1048 (by show Cond.selects (hp_C (hp_kd G o1)) _ _ ∈ lw_all; rw [hkr]; exact q1053) q3225 q1081 (by decide +kernel) (Nat.le_of_ble_eq_true rfl) ⟨by show hp_kd G o1 ≠ 0; rw [hkr]; decide, by show hp_kd G o1 < 28; rw [hkr]; decide⟩ rfl rfl (Nat.le_of_ble_eq_true rfl) hdp hb dJ26_putTreeVal_79 kr kx
theorem blJ26_putTreeVal_75_k16 {w : WD} {j : JB} {r : Nat} {G : GH} {a1 : Option Nat} {a2 : Option Nat} {x3 : Int32} {a4 : Option Nat} {a5 : Option Nat} {a6 : Option Nat} {x7 : Int32} {a8 : Option Nat} {a9 : Option Nat} {a12 : Option Nat} {o1 : Nat} {d' b' : Nat} {P : Option WV → GH → Prop} {PX : String → Nat → GH → Prop}
    (e1 : a4 = some o1)
    (hkr : hp_kd G o1 = 16)
    (hC : wk_C w mJ28_equals d' b' [vR (some o1), vR a12] G P PX)
    (hdp : d' + 1 ≤ j.1)
    (hb : b' ≤ r)
    (kr : ∀ v G', P v G' → wk_V w mJ26_putTreeVal j 82 [(1, vR a1), (2, vR a2), (3, vI x3), (4, vR a4), (5, vR a5), (6, vR a6), (7, vI x7), (8, vR a8), (9, vR a9), (12, vR a12)] (v.toList ++ []) G' (r - b'))
    (kx : ∀ E q G', PX E q G' → wk_T w mJ26_putTreeVal j 79 [(1, vR a1), (2, vR a2), (3, vI x3), (4, vR a4), (5, vR a5), (6, vR a6), (7, vI x7), (8, vR a8), (9, vR a9), (12, vR a12)] G' (r - b') E q)
    : wk_V w mJ26_putTreeVal j 75 [(1, vR a1), (2, vR a2), (3, vI x3), (4, vR a4), (5, vR a5), (6, vR a6), (7, vI x7), (8, vR a8), (9, vR a9), (12, vR a12)] [] G r := by
  refine wk_aload dJ26_putTreeVal_75 rfl ?_
  refine wk_aload dJ26_putTreeVal_77 rfl ?_
  refine wk_eAt 1 e1 rfl ?_
  exact wk_callU (n := 1) (x := ⟨"java/lang/Object", "equals", "(Ljava/lang/Object;)Z"⟩) "java/lang/Object" hC rfl (Or.inl (by decide +kernel)) q1095 q1049 q1048 (by show Cond.selects (hp_C (hp_kd G o1)) _ _ ∈ lw_all; rw [hkr]; exact q1054) q3225 q1081 (by decide +kernel) (Nat.le_of_ble_eq_true rfl) ⟨by show hp_kd G o1 ≠ 0; rw [hkr]; decide, by show hp_kd G o1 < 28; rw [hkr]; decide⟩ rfl rfl (Nat.le_of_ble_eq_true rfl) hdp hb dJ26_putTreeVal_79 kr kx
theorem blJ26_putTreeVal_75_k13 {w : WD} {j : JB} {r : Nat} {G : GH} {a1 : Option Nat} {a2 : Option Nat} {x3 : Int32} {a4 : Option Nat} {a5 : Option Nat} {a6 : Option Nat} {x7 : Int32} {a8 : Option Nat} {a9 : Option Nat} {a12 : Option Nat} {o1 : Nat} {d' b' : Nat} {P : Option WV → GH → Prop} {PX : String → Nat → GH → Prop}
    (e1 : a4 = some o1)
    (hkr : hp_kd G o1 = 13)
    (hC : wk_C w mJ28_equals d' b' [vR (some o1), vR a12] G P PX)
    (hdp : d' + 1 ≤ j.1)
    (hb : b' ≤ r)
    (kr : ∀ v G', P v G' → wk_V w mJ26_putTreeVal j 82 [(1, vR a1), (2, vR a2), (3, vI x3), (4, vR a4), (5, vR a5), (6, vR a6), (7, vI x7), (8, vR a8), (9, vR a9), (12, vR a12)] (v.toList ++ []) G' (r - b'))
    (kx : ∀ E q G', PX E q G' → wk_T w mJ26_putTreeVal j 79 [(1, vR a1), (2, vR a2), (3, vI x3), (4, vR a4), (5, vR a5), (6, vR a6), (7, vI x7), (8, vR a8), (9, vR a9), (12, vR a12)] G' (r - b') E q)
    : wk_V w mJ26_putTreeVal j 75 [(1, vR a1), (2, vR a2), (3, vI x3), (4, vR a4), (5, vR a5), (6, vR a6), (7, vI x7), (8, vR a8), (9, vR a9), (12, vR a12)] [] G r := by
  refine wk_aload dJ26_putTreeVal_75 rfl ?_
  refine wk_aload dJ26_putTreeVal_77 rfl ?_
  refine wk_eAt 1 e1 rfl ?_
  exact wk_callU (n := 1) (x := ⟨"java/lang/Object", "equals", "(Ljava/lang/Object;)Z"⟩) "java/lang/Object" hC rfl (Or.inl (by decide +kernel)) q1095 q1049 q1048 (by show Cond.selects (hp_C (hp_kd G o1)) _ _ ∈ lw_all; rw [hkr]; exact q1055) q3225 q1081 (by decide +kernel) (Nat.le_of_ble_eq_true rfl) ⟨by show hp_kd G o1 ≠ 0; rw [hkr]; decide, by show hp_kd G o1 < 28; rw [hkr]; decide⟩ rfl rfl (Nat.le_of_ble_eq_true rfl) hdp hb dJ26_putTreeVal_79 kr kx
theorem blJ26_putTreeVal_75_k20 {w : WD} {j : JB} {r : Nat} {G : GH} {a1 : Option Nat} {a2 : Option Nat} {x3 : Int32} {a4 : Option Nat} {a5 : Option Nat} {a6 : Option Nat} {x7 : Int32} {a8 : Option Nat} {a9 : Option Nat} {a12 : Option Nat} {o1 : Nat} {d' b' : Nat} {P : Option WV → GH → Prop} {PX : String → Nat → GH → Prop}
    (e1 : a4 = some o1)
    (hkr : hp_kd G o1 = 20)
    (hC : wk_C w mJ28_equals d' b' [vR (some o1), vR a12] G P PX)
    (hdp : d' + 1 ≤ j.1)
    (hb : b' ≤ r)
    (kr : ∀ v G', P v G' → wk_V w mJ26_putTreeVal j 82 [(1, vR a1), (2, vR a2), (3, vI x3), (4, vR a4), (5, vR a5), (6, vR a6), (7, vI x7), (8, vR a8), (9, vR a9), (12, vR a12)] (v.toList ++ []) G' (r - b'))
    (kx : ∀ E q G', PX E q G' → wk_T w mJ26_putTreeVal j 79 [(1, vR a1), (2, vR a2), (3, vI x3), (4, vR a4), (5, vR a5), (6, vR a6), (7, vI x7), (8, vR a8), (9, vR a9), (12, vR a12)] G' (r - b') E q)
    : wk_V w mJ26_putTreeVal j 75 [(1, vR a1), (2, vR a2), (3, vI x3), (4, vR a4), (5, vR a5), (6, vR a6), (7, vI x7), (8, vR a8), (9, vR a9), (12, vR a12)] [] G r := by
  refine wk_aload dJ26_putTreeVal_75 rfl ?_
  refine wk_aload dJ26_putTreeVal_77 rfl ?_
  refine wk_eAt 1 e1 rfl ?_
  exact wk_callU (n := 1) (x := ⟨"java/lang/Object", "equals", "(Ljava/lang/Object;)Z"⟩) "java/lang/Object" hC rfl (Or.inl (by decide +kernel)) q1095 q1049 q1048 (by show Cond.selects (hp_C (hp_kd G o1)) _ _ ∈ lw_all; rw [hkr]; exact q1056) q3225 q1081 (by decide +kernel) (Nat.le_of_ble_eq_true rfl) ⟨by show hp_kd G o1 ≠ 0; rw [hkr]; decide, by show hp_kd G o1 < 28; rw [hkr]; decide⟩ rfl rfl (Nat.le_of_ble_eq_true rfl) hdp hb dJ26_putTreeVal_79 kr kx
theorem blJ26_putTreeVal_75_k7 {w : WD} {j : JB} {r : Nat} {G : GH} {a1 : Option Nat} {a2 : Option Nat} {x3 : Int32} {a4 : Option Nat} {a5 : Option Nat} {a6 : Option Nat} {x7 : Int32} {a8 : Option Nat} {a9 : Option Nat} {a12 : Option Nat} {o1 : Nat} {d' b' : Nat} {P : Option WV → GH → Prop} {PX : String → Nat → GH → Prop}
    (e1 : a4 = some o1)
    (hkr : hp_kd G o1 = 7)
    (hC : wk_C w mJ28_equals d' b' [vR (some o1), vR a12] G P PX)
    (hdp : d' + 1 ≤ j.1)
    (hb : b' ≤ r)
    (kr : ∀ v G', P v G' → wk_V w mJ26_putTreeVal j 82 [(1, vR a1), (2, vR a2), (3, vI x3), (4, vR a4), (5, vR a5), (6, vR a6), (7, vI x7), (8, vR a8), (9, vR a9), (12, vR a12)] (v.toList ++ []) G' (r - b'))
    (kx : ∀ E q G', PX E q G' → wk_T w mJ26_putTreeVal j 79 [(1, vR a1), (2, vR a2), (3, vI x3), (4, vR a4), (5, vR a5), (6, vR a6), (7, vI x7), (8, vR a8), (9, vR a9), (12, vR a12)] G' (r - b') E q)
    : wk_V w mJ26_putTreeVal j 75 [(1, vR a1), (2, vR a2), (3, vI x3), (4, vR a4), (5, vR a5), (6, vR a6), (7, vI x7), (8, vR a8), (9, vR a9), (12, vR a12)] [] G r := by
  refine wk_aload dJ26_putTreeVal_75 rfl ?_
  refine wk_aload dJ26_putTreeVal_77 rfl ?_
  refine wk_eAt 1 e1 rfl ?_
  exact wk_callU (n := 1) (x := ⟨"java/lang/Object", "equals", "(Ljava/lang/Object;)Z"⟩) "java/lang/Object" hC rfl (Or.inl (by decide +kernel)) q1095 q1049 q1048 (by show Cond.selects (hp_C (hp_kd G o1)) _ _ ∈ lw_all; rw [hkr]; exact q1057) q3225 q1081 (by decide +kernel) (Nat.le_of_ble_eq_true rfl) ⟨by show hp_kd G o1 ≠ 0; rw [hkr]; decide, by show hp_kd G o1 < 28; rw [hkr]; decide⟩ rfl rfl (Nat.le_of_ble_eq_true rfl) hdp hb dJ26_putTreeVal_79 kr kx
theorem blJ26_putTreeVal_75_k17 {w : WD} {j : JB} {r : Nat} {G : GH} {a1 : Option Nat} {a2 : Option Nat} {x3 : Int32} {a4 : Option Nat} {a5 : Option Nat} {a6 : Option Nat} {x7 : Int32} {a8 : Option Nat} {a9 : Option Nat} {a12 : Option Nat} {o1 : Nat} {d' b' : Nat} {P : Option WV → GH → Prop} {PX : String → Nat → GH → Prop}
    (e1 : a4 = some o1)
    (hkr : hp_kd G o1 = 17)
    (hC : wk_C w mJ28_equals d' b' [vR (some o1), vR a12] G P PX)
    (hdp : d' + 1 ≤ j.1)
    (hb : b' ≤ r)
    (kr : ∀ v G', P v G' → wk_V w mJ26_putTreeVal j 82 [(1, vR a1), (2, vR a2), (3, vI x3), (4, vR a4), (5, vR a5), (6, vR a6), (7, vI x7), (8, vR a8), (9, vR a9), (12, vR a12)] (v.toList ++ []) G' (r - b'))
    (kx : ∀ E q G', PX E q G' → wk_T w mJ26_putTreeVal j 79 [(1, vR a1), (2, vR a2), (3, vI x3), (4, vR a4), (5, vR a5), (6, vR a6), (7, vI x7), (8, vR a8), (9, vR a9), (12, vR a12)] G' (r - b') E q)
    : wk_V w mJ26_putTreeVal j 75 [(1, vR a1), (2, vR a2), (3, vI x3), (4, vR a4), (5, vR a5), (6, vR a6), (7, vI x7), (8, vR a8), (9, vR a9), (12, vR a12)] [] G r := by
  refine wk_aload dJ26_putTreeVal_75 rfl ?_
  refine wk_aload dJ26_putTreeVal_77 rfl ?_
  refine wk_eAt 1 e1 rfl ?_
  exact wk_callU (n := 1) (x := ⟨"java/lang/Object", "equals", "(Ljava/lang/Object;)Z"⟩) "java/lang/Object" hC rfl (Or.inl (by decide +kernel)) q1095 q1049 q1048 (by show Cond.selects (hp_C (hp_kd G o1)) _ _ ∈ lw_all; rw [hkr]; exact q1058) q3225 q1081 (by decide +kernel) (Nat.le_of_ble_eq_true rfl) ⟨by show hp_kd G o1 ≠ 0; rw [hkr]; decide, by show hp_kd G o1 < 28; rw [hkr]; decide⟩ rfl rfl (Nat.le_of_ble_eq_true rfl) hdp hb dJ26_putTreeVal_79 kr kx
theorem blJ26_putTreeVal_75_k9 {w : WD} {j : JB} {r : Nat} {G : GH} {a1 : Option Nat} {a2 : Option Nat} {x3 : Int32} {a4 : Option Nat} {a5 : Option Nat} {a6 : Option Nat} {x7 : Int32} {a8 : Option Nat} {a9 : Option Nat} {a12 : Option Nat} {o1 : Nat} {d' b' : Nat} {P : Option WV → GH → Prop} {PX : String → Nat → GH → Prop}
    (e1 : a4 = some o1)
    (hkr : hp_kd G o1 = 9)
    (hC : wk_C w mJ28_equals d' b' [vR (some o1), vR a12] G P PX)
    (hdp : d' + 1 ≤ j.1)
    (hb : b' ≤ r)
    (kr : ∀ v G', P v G' → wk_V w mJ26_putTreeVal j 82 [(1, vR a1), (2, vR a2), (3, vI x3), (4, vR a4), (5, vR a5), (6, vR a6), (7, vI x7), (8, vR a8), (9, vR a9), (12, vR a12)] (v.toList ++ []) G' (r - b'))
    (kx : ∀ E q G', PX E q G' → wk_T w mJ26_putTreeVal j 79 [(1, vR a1), (2, vR a2), (3, vI x3), (4, vR a4), (5, vR a5), (6, vR a6), (7, vI x7), (8, vR a8), (9, vR a9), (12, vR a12)] G' (r - b') E q)
    : wk_V w mJ26_putTreeVal j 75 [(1, vR a1), (2, vR a2), (3, vI x3), (4, vR a4), (5, vR a5), (6, vR a6), (7, vI x7), (8, vR a8), (9, vR a9), (12, vR a12)] [] G r := by
  refine wk_aload dJ26_putTreeVal_75 rfl ?_
  refine wk_aload dJ26_putTreeVal_77 rfl ?_
  refine wk_eAt 1 e1 rfl ?_
  exact wk_callU (n := 1) (x := ⟨"java/lang/Object", "equals", "(Ljava/lang/Object;)Z"⟩) "java/lang/Object" hC rfl (Or.inl (by decide +kernel)) q1095 q1049 q1048 (by show Cond.selects (hp_C (hp_kd G o1)) _ _ ∈ lw_all; rw [hkr]; exact q1059) q3225 q1081 (by decide +kernel) (Nat.le_of_ble_eq_true rfl) ⟨by show hp_kd G o1 ≠ 0; rw [hkr]; decide, by show hp_kd G o1 < 28; rw [hkr]; decide⟩ rfl rfl (Nat.le_of_ble_eq_true rfl) hdp hb dJ26_putTreeVal_79 kr kx
theorem blJ26_putTreeVal_75_k11 {w : WD} {j : JB} {r : Nat} {G : GH} {a1 : Option Nat} {a2 : Option Nat} {x3 : Int32} {a4 : Option Nat} {a5 : Option Nat} {a6 : Option Nat} {x7 : Int32} {a8 : Option Nat} {a9 : Option Nat} {a12 : Option Nat} {o1 : Nat} {d' b' : Nat} {P : Option WV → GH → Prop} {PX : String → Nat → GH → Prop}
    (e1 : a4 = some o1)
    (hkr : hp_kd G o1 = 11)
    (hC : wk_C w mJ28_equals d' b' [vR (some o1), vR a12] G P PX)
    (hdp : d' + 1 ≤ j.1)
    (hb : b' ≤ r)
    (kr : ∀ v G', P v G' → wk_V w mJ26_putTreeVal j 82 [(1, vR a1), (2, vR a2), (3, vI x3), (4, vR a4), (5, vR a5), (6, vR a6), (7, vI x7), (8, vR a8), (9, vR a9), (12, vR a12)] (v.toList ++ []) G' (r - b'))
    (kx : ∀ E q G', PX E q G' → wk_T w mJ26_putTreeVal j 79 [(1, vR a1), (2, vR a2), (3, vI x3), (4, vR a4), (5, vR a5), (6, vR a6), (7, vI x7), (8, vR a8), (9, vR a9), (12, vR a12)] G' (r - b') E q)
    : wk_V w mJ26_putTreeVal j 75 [(1, vR a1), (2, vR a2), (3, vI x3), (4, vR a4), (5, vR a5), (6, vR a6), (7, vI x7), (8, vR a8), (9, vR a9), (12, vR a12)] [] G r := by
  refine wk_aload dJ26_putTreeVal_75 rfl ?_
  refine wk_aload dJ26_putTreeVal_77 rfl ?_
  refine wk_eAt 1 e1 rfl ?_
  exact wk_callU (n := 1) (x := ⟨"java/lang/Object", "equals", "(Ljava/lang/Object;)Z"⟩) "java/lang/Object" hC rfl (Or.inl (by decide +kernel)) q1095 q1049 q1048 (by show Cond.selects (hp_C (hp_kd G o1)) _ _ ∈ lw_all; rw [hkr]; exact q1060) q3225 q1081 (by decide +kernel) (Nat.le_of_ble_eq_true rfl) ⟨by show hp_kd G o1 ≠ 0; rw [hkr]; decide, by show hp_kd G o1 < 28; rw [hkr]; decide⟩ rfl rfl (Nat.le_of_ble_eq_true rfl) hdp hb dJ26_putTreeVal_79 kr kx
theorem blJ26_putTreeVal_75_k14 {w : WD} {j : JB} {r : Nat} {G : GH} {a1 : Option Nat} {a2 : Option Nat} {x3 : Int32} {a4 : Option Nat} {a5 : Option Nat} {a6 : Option Nat} {x7 : Int32} {a8 : Option Nat} {a9 : Option Nat} {a12 : Option Nat} {o1 : Nat} {d' b' : Nat} {P : Option WV → GH → Prop} {PX : String → Nat → GH → Prop}
    (e1 : a4 = some o1)
    (hkr : hp_kd G o1 = 14)
    (hC : wk_C w mJ28_equals d' b' [vR (some o1), vR a12] G P PX)
    (hdp : d' + 1 ≤ j.1)
    (hb : b' ≤ r)
    (kr : ∀ v G', P v G' → wk_V w mJ26_putTreeVal j 82 [(1, vR a1), (2, vR a2), (3, vI x3), (4, vR a4), (5, vR a5), (6, vR a6), (7, vI x7), (8, vR a8), (9, vR a9), (12, vR a12)] (v.toList ++ []) G' (r - b'))
    (kx : ∀ E q G', PX E q G' → wk_T w mJ26_putTreeVal j 79 [(1, vR a1), (2, vR a2), (3, vI x3), (4, vR a4), (5, vR a5), (6, vR a6), (7, vI x7), (8, vR a8), (9, vR a9), (12, vR a12)] G' (r - b') E q)
    : wk_V w mJ26_putTreeVal j 75 [(1, vR a1), (2, vR a2), (3, vI x3), (4, vR a4), (5, vR a5), (6, vR a6), (7, vI x7), (8, vR a8), (9, vR a9), (12, vR a12)] [] G r := by
  refine wk_aload dJ26_putTreeVal_75 rfl ?_
  refine wk_aload dJ26_putTreeVal_77 rfl ?_
  refine wk_eAt 1 e1 rfl ?_
  exact wk_callU (n := 1) (x := ⟨"java/lang/Object", "equals", "(Ljava/lang/Object;)Z"⟩) "java/lang/Object" hC rfl (Or.inl (by decide +kernel)) q1095 q1049 q1048 (by show Cond.selects (hp_C (hp_kd G o1)) _ _ ∈ lw_all; rw [hkr]; exact q1061) q3225 q1081 (by decide +kernel) (Nat.le_of_ble_eq_true rfl) ⟨by show hp_kd G o1 ≠ 0; rw [hkr]; decide, by show hp_kd G o1 < 28; rw [hkr]; decide⟩ rfl rfl (Nat.le_of_ble_eq_true rfl) hdp hb dJ26_putTreeVal_79 kr kx
theorem blJ26_putTreeVal_75_k8 {w : WD} {j : JB} {r : Nat} {G : GH} {a1 : Option Nat} {a2 : Option Nat} {x3 : Int32} {a4 : Option Nat} {a5 : Option Nat} {a6 : Option Nat} {x7 : Int32} {a8 : Option Nat} {a9 : Option Nat} {a12 : Option Nat} {o1 : Nat} {d' b' : Nat} {P : Option WV → GH → Prop} {PX : String → Nat → GH → Prop}
    (e1 : a4 = some o1)
    (hkr : hp_kd G o1 = 8)
    (hC : wk_C w mJ28_equals d' b' [vR (some o1), vR a12] G P PX)
    (hdp : d' + 1 ≤ j.1)
    (hb : b' ≤ r)
    (kr : ∀ v G', P v G' → wk_V w mJ26_putTreeVal j 82 [(1, vR a1), (2, vR a2), (3, vI x3), (4, vR a4), (5, vR a5), (6, vR a6), (7, vI x7), (8, vR a8), (9, vR a9), (12, vR a12)] (v.toList ++ []) G' (r - b'))
    (kx : ∀ E q G', PX E q G' → wk_T w mJ26_putTreeVal j 79 [(1, vR a1), (2, vR a2), (3, vI x3), (4, vR a4), (5, vR a5), (6, vR a6), (7, vI x7), (8, vR a8), (9, vR a9), (12, vR a12)] G' (r - b') E q)
    : wk_V w mJ26_putTreeVal j 75 [(1, vR a1), (2, vR a2), (3, vI x3), (4, vR a4), (5, vR a5), (6, vR a6), (7, vI x7), (8, vR a8), (9, vR a9), (12, vR a12)] [] G r := by
  refine wk_aload dJ26_putTreeVal_75 rfl ?_
  refine wk_aload dJ26_putTreeVal_77 rfl ?_
  refine wk_eAt 1 e1 rfl ?_
  exact wk_callU (n := 1) (x := ⟨"java/lang/Object", "equals", "(Ljava/lang/Object;)Z"⟩) "java/lang/Object" hC rfl (Or.inl (by decide +kernel)) q1095 q1049 q1048 (by show Cond.selects (hp_C (hp_kd G o1)) _ _ ∈ lw_all; rw [hkr]; exact q1062) q3225 q1081 (by decide +kernel) (Nat.le_of_ble_eq_true rfl) ⟨by show hp_kd G o1 ≠ 0; rw [hkr]; decide, by show hp_kd G o1 < 28; rw [hkr]; decide⟩ rfl rfl (Nat.le_of_ble_eq_true rfl) hdp hb dJ26_putTreeVal_79 kr kx
theorem blJ26_putTreeVal_75_k10 {w : WD} {j : JB} {r : Nat} {G : GH} {a1 : Option Nat} {a2 : Option Nat} {x3 : Int32} {a4 : Option Nat} {a5 : Option Nat} {a6 : Option Nat} {x7 : Int32} {a8 : Option Nat} {a9 : Option Nat} {a12 : Option Nat} {o1 : Nat} {d' b' : Nat} {P : Option WV → GH → Prop} {PX : String → Nat → GH → Prop}
    (e1 : a4 = some o1)
    (hkr : hp_kd G o1 = 10)
    (hC : wk_C w mJ28_equals d' b' [vR (some o1), vR a12] G P PX)
    (hdp : d' + 1 ≤ j.1)
    (hb : b' ≤ r)
    (kr : ∀ v G', P v G' → wk_V w mJ26_putTreeVal j 82 [(1, vR a1), (2, vR a2), (3, vI x3), (4, vR a4), (5, vR a5), (6, vR a6), (7, vI x7), (8, vR a8), (9, vR a9), (12, vR a12)] (v.toList ++ []) G' (r - b'))
    (kx : ∀ E q G', PX E q G' → wk_T w mJ26_putTreeVal j 79 [(1, vR a1), (2, vR a2), (3, vI x3), (4, vR a4), (5, vR a5), (6, vR a6), (7, vI x7), (8, vR a8), (9, vR a9), (12, vR a12)] G' (r - b') E q)
    : wk_V w mJ26_putTreeVal j 75 [(1, vR a1), (2, vR a2), (3, vI x3), (4, vR a4), (5, vR a5), (6, vR a6), (7, vI x7), (8, vR a8), (9, vR a9), (12, vR a12)] [] G r := by
  refine wk_aload dJ26_putTreeVal_75 rfl ?_
  refine wk_aload dJ26_putTreeVal_77 rfl ?_
  refine wk_eAt 1 e1 rfl ?_
  exact wk_callU (n := 1) (x := ⟨"java/lang/Object", "equals", "(Ljava/lang/Object;)Z"⟩) "java/lang/Object" hC rfl (Or.inl (by decide +kernel)) q1095 q1049 q1048 (by show Cond.selects (hp_C (hp_kd G o1)) _ _ ∈ lw_all; rw [hkr]; exact q1063) q3225 q1081 (by decide +kernel) (Nat.le_of_ble_eq_true rfl) ⟨by show hp_kd G o1 ≠ 0; rw [hkr]; decide, by show hp_kd G o1 < 28; rw [hkr]; decide⟩ rfl rfl (Nat.le_of_ble_eq_true rfl) hdp hb dJ26_putTreeVal_79 kr kx
theorem blJ26_putTreeVal_75_k15 {w : WD} {j : JB} {r : Nat} {G : GH} {a1 : Option Nat} {a2 : Option Nat} {x3 : Int32} {a4 : Option Nat} {a5 : Option Nat} {a6 : Option Nat} {x7 : Int32} {a8 : Option Nat} {a9 : Option Nat} {a12 : Option Nat} {o1 : Nat} {d' b' : Nat} {P : Option WV → GH → Prop} {PX : String → Nat → GH → Prop}
    (e1 : a4 = some o1)
    (hkr : hp_kd G o1 = 15)
    (hC : wk_C w mJ28_equals d' b' [vR (some o1), vR a12] G P PX)
    (hdp : d' + 1 ≤ j.1)
    (hb : b' ≤ r)
    (kr : ∀ v G', P v G' → wk_V w mJ26_putTreeVal j 82 [(1, vR a1), (2, vR a2), (3, vI x3), (4, vR a4), (5, vR a5), (6, vR a6), (7, vI x7), (8, vR a8), (9, vR a9), (12, vR a12)] (v.toList ++ []) G' (r - b'))
    (kx : ∀ E q G', PX E q G' → wk_T w mJ26_putTreeVal j 79 [(1, vR a1), (2, vR a2), (3, vI x3), (4, vR a4), (5, vR a5), (6, vR a6), (7, vI x7), (8, vR a8), (9, vR a9), (12, vR a12)] G' (r - b') E q)
    : wk_V w mJ26_putTreeVal j 75 [(1, vR a1), (2, vR a2), (3, vI x3), (4, vR a4), (5, vR a5), (6, vR a6), (7, vI x7), (8, vR a8), (9, vR a9), (12, vR a12)] [] G r := by
  refine wk_aload dJ26_putTreeVal_75 rfl ?_
  refine wk_aload dJ26_putTreeVal_77 rfl ?_
  refine wk_eAt 1 e1 rfl ?_
  exact wk_callU (n := 1) (x := ⟨"java/lang/Object", "equals", "(Ljava/lang/Object;)Z"⟩) "java/lang/Object" hC rfl (Or.inl (by decide +kernel)) q1095 q1049 q1048 (by show Cond.selects (hp_C (hp_kd G o1)) _ _ ∈ lw_all; rw [hkr]; exact q1064) q3225 q1081 (by decide +kernel) (Nat.le_of_ble_eq_true rfl) ⟨by show hp_kd G o1 ≠ 0; rw [hkr]; decide, by show hp_kd G o1 < 28; rw [hkr]; decide⟩ rfl rfl (Nat.le_of_ble_eq_true rfl) hdp hb dJ26_putTreeVal_79 kr kx
theorem blJ26_putTreeVal_75_k12 {w : WD} {j : JB} {r : Nat} {G : GH} {a1 : Option Nat} {a2 : Option Nat} {x3 : Int32} {a4 : Option Nat} {a5 : Option Nat} {a6 : Option Nat} {x7 : Int32} {a8 : Option Nat} {a9 : Option Nat} {a12 : Option Nat} {o1 : Nat} {d' b' : Nat} {P : Option WV → GH → Prop} {PX : String → Nat → GH → Prop}
    (e1 : a4 = some o1)
    (hkr : hp_kd G o1 = 12)
    (hC : wk_C w mJ28_equals d' b' [vR (some o1), vR a12] G P PX)
    (hdp : d' + 1 ≤ j.1)
    (hb : b' ≤ r)
    (kr : ∀ v G', P v G' → wk_V w mJ26_putTreeVal j 82 [(1, vR a1), (2, vR a2), (3, vI x3), (4, vR a4), (5, vR a5), (6, vR a6), (7, vI x7), (8, vR a8), (9, vR a9), (12, vR a12)] (v.toList ++ []) G' (r - b'))
    (kx : ∀ E q G', PX E q G' → wk_T w mJ26_putTreeVal j 79 [(1, vR a1), (2, vR a2), (3, vI x3), (4, vR a4), (5, vR a5), (6, vR a6), (7, vI x7), (8, vR a8), (9, vR a9), (12, vR a12)] G' (r - b') E q)
    : wk_V w mJ26_putTreeVal j 75 [(1, vR a1), (2, vR a2), (3, vI x3), (4, vR a4), (5, vR a5), (6, vR a6), (7, vI x7), (8, vR a8), (9, vR a9), (12, vR a12)] [] G r := by
  refine wk_aload dJ26_putTreeVal_75 rfl ?_
  refine wk_aload dJ26_putTreeVal_77 rfl ?_
  refine wk_eAt 1 e1 rfl ?_
  exact wk_callU (n := 1) (x := ⟨"java/lang/Object", "equals", "(Ljava/lang/Object;)Z"⟩) "java/lang/Object" hC rfl (Or.inl (by decide +kernel)) q1095 q1049 q1048 (by show Cond.selects (hp_C (hp_kd G o1)) _ _ ∈ lw_all; rw [hkr]; exact q1065) q3225 q1081 (by decide +kernel) (Nat.le_of_ble_eq_true rfl) ⟨by show hp_kd G o1 ≠ 0; rw [hkr]; decide, by show hp_kd G o1 < 28; rw [hkr]; decide⟩ rfl rfl (Nat.le_of_ble_eq_true rfl) hdp hb dJ26_putTreeVal_79 kr kx
theorem blJ26_putTreeVal_75_k6 {w : WD} {j : JB} {r : Nat} {G : GH} {a1 : Option Nat} {a2 : Option Nat} {x3 : Int32} {a4 : Option Nat} {a5 : Option Nat} {a6 : Option Nat} {x7 : Int32} {a8 : Option Nat} {a9 : Option Nat} {a12 : Option Nat} {o1 : Nat} {d' b' : Nat} {P : Option WV → GH → Prop} {PX : String → Nat → GH → Prop}
    (e1 : a4 = some o1)
    (hkr : hp_kd G o1 = 6)
    (hC : wk_C w mJ28_equals d' b' [vR (some o1), vR a12] G P PX)
    (hdp : d' + 1 ≤ j.1)
    (hb : b' ≤ r)
    (kr : ∀ v G', P v G' → wk_V w mJ26_putTreeVal j 82 [(1, vR a1), (2, vR a2), (3, vI x3), (4, vR a4), (5, vR a5), (6, vR a6), (7, vI x7), (8, vR a8), (9, vR a9), (12, vR a12)] (v.toList ++ []) G' (r - b'))
    (kx : ∀ E q G', PX E q G' → wk_T w mJ26_putTreeVal j 79 [(1, vR a1), (2, vR a2), (3, vI x3), (4, vR a4), (5, vR a5), (6, vR a6), (7, vI x7), (8, vR a8), (9, vR a9), (12, vR a12)] G' (r - b') E q)
    : wk_V w mJ26_putTreeVal j 75 [(1, vR a1), (2, vR a2), (3, vI x3), (4, vR a4), (5, vR a5), (6, vR a6), (7, vI x7), (8, vR a8), (9, vR a9), (12, vR a12)] [] G r := by
  refine wk_aload dJ26_putTreeVal_75 rfl ?_
  refine wk_aload dJ26_putTreeVal_77 rfl ?_
  refine wk_eAt 1 e1 rfl ?_
  exact wk_callU (n := 1) (x := ⟨"java/lang/Object", "equals", "(Ljava/lang/Object;)Z"⟩) "java/lang/Object" hC rfl (Or.inl (by decide +kernel)) q1095 q1049 q1048 (by show Cond.selects (hp_C (hp_kd G o1)) _ _ ∈ lw_all; rw [hkr]; exact q1070) q3225 q1081 (by decide +kernel) (Nat.le_of_ble_eq_true rfl) ⟨by show hp_kd G o1 ≠ 0; rw [hkr]; decide, by show hp_kd G o1 < 28; rw [hkr]; decide⟩ rfl rfl (Nat.le_of_ble_eq_true rfl) hdp hb dJ26_putTreeVal_79 kr kx
theorem blJ26_putTreeVal_75_k19 {w : WD} {j : JB} {r : Nat} {G : GH} {a1 : Option Nat} {a2 : Option Nat} {x3 : Int32} {a4 : Option Nat} {a5 : Option Nat} {a6 : Option Nat} {x7 : Int32} {a8 : Option Nat} {a9 : Option Nat} {a12 : Option Nat} {o1 : Nat} {d' b' : Nat} {P : Option WV → GH → Prop} {PX : String → Nat → GH → Prop}
    (e1 : a4 = some o1)
    (hkr : hp_kd G o1 = 19)
    (hC : wk_C w mJ28_equals d' b' [vR (some o1), vR a12] G P PX)
    (hdp : d' + 1 ≤ j.1)
    (hb : b' ≤ r)
    (kr : ∀ v G', P v G' → wk_V w mJ26_putTreeVal j 82 [(1, vR a1), (2, vR a2), (3, vI x3), (4, vR a4), (5, vR a5), (6, vR a6), (7, vI x7), (8, vR a8), (9, vR a9), (12, vR a12)] (v.toList ++ []) G' (r - b'))
    (kx : ∀ E q G', PX E q G' → wk_T w mJ26_putTreeVal j 79 [(1, vR a1), (2, vR a2), (3, vI x3), (4, vR a4), (5, vR a5), (6, vR a6), (7, vI x7), (8, vR a8), (9, vR a9), (12, vR a12)] G' (r - b') E q)
    : wk_V w mJ26_putTreeVal j 75 [(1, vR a1), (2, vR a2), (3, vI x3), (4, vR a4), (5, vR a5), (6, vR a6), (7, vI x7), (8, vR a8), (9, vR a9), (12, vR a12)] [] G r := by
  refine wk_aload dJ26_putTreeVal_75 rfl ?_
  refine wk_aload dJ26_putTreeVal_77 rfl ?_
  refine wk_eAt 1 e1 rfl ?_
  exact wk_callU (n := 1) (x := ⟨"java/lang/Object", "equals", "(Ljava/lang/Object;)Z"⟩) "java/lang/Object" hC rfl (Or.inl (by decide +kernel)) q1095 q1049 q1048 (by show Cond.selects (hp_C (hp_kd G o1)) _ _ ∈ lw_all; rw [hkr]; exact q1071) q3225 q1081 (by decide +kernel) (Nat.le_of_ble_eq_true rfl) ⟨by show hp_kd G o1 ≠ 0; rw [hkr]; decide, by show hp_kd G o1 < 28; rw [hkr]; decide⟩ rfl rfl (Nat.le_of_ble_eq_true rfl) hdp hb dJ26_putTreeVal_79 kr kx
theorem blJ26_putTreeVal_75_k3 {w : WD} {j : JB} {r : Nat} {G : GH} {a1 : Option Nat} {a2 : Option Nat} {x3 : Int32} {a4 : Option Nat} {a5 : Option Nat} {a6 : Option Nat} {x7 : Int32} {a8 : Option Nat} {a9 : Option Nat} {a12 : Option Nat} {o1 : Nat} {d' b' : Nat} {P : Option WV → GH → Prop} {PX : String → Nat → GH → Prop}
    (e1 : a4 = some o1)
    (hkr : hp_kd G o1 = 3)
    (hC : wk_C w mJ28_equals d' b' [vR (some o1), vR a12] G P PX)
    (hdp : d' + 1 ≤ j.1)
    (hb : b' ≤ r)
    (kr : ∀ v G', P v G' → wk_V w mJ26_putTreeVal j 82 [(1, vR a1), (2, vR a2), (3, vI x3), (4, vR a4), (5, vR a5), (6, vR a6), (7, vI x7), (8, vR a8), (9, vR a9), (12, vR a12)] (v.toList ++ []) G' (r - b'))
    (kx : ∀ E q G', PX E q G' → wk_T w mJ26_putTreeVal j 79 [(1, vR a1), (2, vR a2), (3, vI x3), (4, vR a4), (5, vR a5), (6, vR a6), (7, vI x7), (8, vR a8), (9, vR a9), (12, vR a12)] G' (r - b') E q)
    : wk_V w mJ26_putTreeVal j 75 [(1, vR a1), (2, vR a2), (3, vI x3), (4, vR a4), (5, vR a5), (6, vR a6), (7, vI x7), (8, vR a8), (9, vR a9), (12, vR a12)] [] G r := by
  refine wk_aload dJ26_putTreeVal_75 rfl ?_
  refine wk_aload dJ26_putTreeVal_77 rfl ?_
  refine wk_eAt 1 e1 rfl ?_
  exact wk_callU (n := 1) (x := ⟨"java/lang/Object", "equals", "(Ljava/lang/Object;)Z"⟩) "java/lang/Object" hC rfl (Or.inl (by decide +kernel)) q1095 q1049 q1048 (by show Cond.selects (hp_C (hp_kd G o1)) _ _ ∈ lw_all; rw [hkr]; exact q1072) q3225 q1081 (by decide +kernel) (Nat.le_of_ble_eq_true rfl) ⟨by show hp_kd G o1 ≠ 0; rw [hkr]; decide, by show hp_kd G o1 < 28; rw [hkr]; decide⟩ rfl rfl (Nat.le_of_ble_eq_true rfl) hdp hb dJ26_putTreeVal_79 kr kx
theorem blJ26_putTreeVal_75_k1 {w : WD} {j : JB} {r : Nat} {G : GH} {a1 : Option Nat} {a2 : Option Nat} {x3 : Int32} {a4 : Option Nat} {a5 : Option Nat} {a6 : Option Nat} {x7 : Int32} {a8 : Option Nat} {a9 : Option Nat} {a12 : Option Nat} {o1 : Nat} {d' b' : Nat} {P : Option WV → GH → Prop} {PX : String → Nat → GH → Prop}
    (e1 : a4 = some o1)
    (hkr : hp_kd G o1 = 1)
    (hC : wk_C w mJ28_equals d' b' [vR (some o1), vR a12] G P PX)
    (hdp : d' + 1 ≤ j.1)
    (hb : b' ≤ r)
    (kr : ∀ v G', P v G' → wk_V w mJ26_putTreeVal j 82 [(1, vR a1), (2, vR a2), (3, vI x3), (4, vR a4), (5, vR a5), (6, vR a6), (7, vI x7), (8, vR a8), (9, vR a9), (12, vR a12)] (v.toList ++ []) G' (r - b'))
    (kx : ∀ E q G', PX E q G' → wk_T w mJ26_putTreeVal j 79 [(1, vR a1), (2, vR a2), (3, vI x3), (4, vR a4), (5, vR a5), (6, vR a6), (7, vI x7), (8, vR a8), (9, vR a9), (12, vR a12)] G' (r - b') E q)
    : wk_V w mJ26_putTreeVal j 75 [(1, vR a1), (2, vR a2), (3, vI x3), (4, vR a4), (5, vR a5), (6, vR a6), (7, vI x7), (8, vR a8), (9, vR a9), (12, vR a12)] [] G r := by
  refine wk_aload dJ26_putTreeVal_75 rfl ?_
  refine wk_aload dJ26_putTreeVal_77 rfl ?_
  refine wk_eAt 1 e1 rfl ?_
  exact wk_callU (n := 1) (x := ⟨"java/lang/Object", "equals", "(Ljava/lang/Object;)Z"⟩) "java/lang/Object" hC rfl (Or.inl (by decide +kernel)) q1095 q1049 q1048 (by show Cond.selects (hp_C (hp_kd G o1)) _ _ ∈ lw_all; rw [hkr]; exact q1073) q3225 q1081 (by decide +kernel) (Nat.le_of_ble_eq_true rfl) ⟨by show hp_kd G o1 ≠ 0; rw [hkr]; decide, by show hp_kd G o1 < 28; rw [hkr]; decide⟩ rfl rfl (Nat.le_of_ble_eq_true rfl) hdp hb dJ26_putTreeVal_79 kr kx
theorem blJ26_putTreeVal_75_k4 {w : WD} {j : JB} {r : Nat} {G : GH} {a1 : Option Nat} {a2 : Option Nat} {x3 : Int32} {a4 : Option Nat} {a5 : Option Nat} {a6 : Option Nat} {x7 : Int32} {a8 : Option Nat} {a9 : Option Nat} {a12 : Option Nat} {o1 : Nat} {d' b' : Nat} {P : Option WV → GH → Prop} {PX : String → Nat → GH → Prop}
    (e1 : a4 = some o1)
    (hkr : hp_kd G o1 = 4)
    (hC : wk_C w mJ28_equals d' b' [vR (some o1), vR a12] G P PX)
    (hdp : d' + 1 ≤ j.1)
    (hb : b' ≤ r)
    (kr : ∀ v G', P v G' → wk_V w mJ26_putTreeVal j 82 [(1, vR a1), (2, vR a2), (3, vI x3), (4, vR a4), (5, vR a5), (6, vR a6), (7, vI x7), (8, vR a8), (9, vR a9), (12, vR a12)] (v.toList ++ []) G' (r - b'))
    (kx : ∀ E q G', PX E q G' → wk_T w mJ26_putTreeVal j 79 [(1, vR a1), (2, vR a2), (3, vI x3), (4, vR a4), (5, vR a5), (6, vR a6), (7, vI x7), (8, vR a8), (9, vR a9), (12, vR a12)] G' (r - b') E q)
    : wk_V w mJ26_putTreeVal j 75 [(1, vR a1), (2, vR a2), (3, vI x3), (4, vR a4), (5, vR a5), (6, vR a6), (7, vI x7), (8, vR a8), (9, vR a9), (12, vR a12)] [] G r := by
  refine wk_aload dJ26_putTreeVal_75 rfl ?_
  refine wk_aload dJ26_putTreeVal_77 rfl ?_
  refine wk_eAt 1 e1 rfl ?_
  exact wk_callU (n := 1) (x := ⟨"java/lang/Object", "equals", "(Ljava/lang/Object;)Z"⟩) "java/lang/Object" hC rfl (Or.inl (by decide +kernel)) q1095 q1049 q1048 (by show Cond.selects (hp_C (hp_kd G o1)) _ _ ∈ lw_all; rw [hkr]; exact q1074) q3225 q1081 (by decide +kernel) (Nat.le_of_ble_eq_true rfl) ⟨by show hp_kd G o1 ≠ 0; rw [hkr]; decide, by show hp_kd G o1 < 28; rw [hkr]; decide⟩ rfl rfl (Nat.le_of_ble_eq_true rfl) hdp hb dJ26_putTreeVal_79 kr kx
theorem blJ26_putTreeVal_75_k26 {w : WD} {j : JB} {r : Nat} {G : GH} {a1 : Option Nat} {a2 : Option Nat} {x3 : Int32} {a4 : Option Nat} {a5 : Option Nat} {a6 : Option Nat} {x7 : Int32} {a8 : Option Nat} {a9 : Option Nat} {a12 : Option Nat} {o1 : Nat} {d' b' : Nat} {P : Option WV → GH → Prop} {PX : String → Nat → GH → Prop}
    (e1 : a4 = some o1)
    (hkr : hp_kd G o1 = 26)
    (hC : wk_C w mJ13_equals d' b' [vR (some o1), vR a12] G P PX)
    (hdp : d' + 1 ≤ j.1)
    (hb : b' ≤ r)
    (kr : ∀ v G', P v G' → wk_V w mJ26_putTreeVal j 82 [(1, vR a1), (2, vR a2), (3, vI x3), (4, vR a4), (5, vR a5), (6, vR a6), (7, vI x7), (8, vR a8), (9, vR a9), (12, vR a12)] (v.toList ++ []) G' (r - b'))
    (kx : ∀ E q G', PX E q G' → wk_T w mJ26_putTreeVal j 79 [(1, vR a1), (2, vR a2), (3, vI x3), (4, vR a4), (5, vR a5), (6, vR a6), (7, vI x7), (8, vR a8), (9, vR a9), (12, vR a12)] G' (r - b') E q)
    : wk_V w mJ26_putTreeVal j 75 [(1, vR a1), (2, vR a2), (3, vI x3), (4, vR a4), (5, vR a5), (6, vR a6), (7, vI x7), (8, vR a8), (9, vR a9), (12, vR a12)] [] G r := by
  refine wk_aload dJ26_putTreeVal_75 rfl ?_
  refine wk_aload dJ26_putTreeVal_77 rfl ?_
  refine wk_eAt 1 e1 rfl ?_
  exact wk_callU (n := 1) (x := ⟨"java/lang/Object", "equals", "(Ljava/lang/Object;)Z"⟩) "java/lang/Object" hC rfl (Or.inl (by decide +kernel)) q1095 q1049 q896 (by show Cond.selects (hp_C (hp_kd G o1)) _ _ ∈ lw_all; rw [hkr]; exact q1077) q129 q898 (by decide +kernel) (Nat.le_of_ble_eq_true rfl) ⟨by show hp_kd G o1 ≠ 0; rw [hkr]; decide, by show hp_kd G o1 < 28; rw [hkr]; decide⟩ rfl rfl (Nat.le_of_ble_eq_true rfl) hdp hb dJ26_putTreeVal_79 kr kx
theorem blJ26_putTreeVal_75_k27 {w : WD} {j : JB} {r : Nat} {G : GH} {a1 : Option Nat} {a2 : Option Nat} {x3 : Int32} {a4 : Option Nat} {a5 : Option Nat} {a6 : Option Nat} {x7 : Int32} {a8 : Option Nat} {a9 : Option Nat} {a12 : Option Nat} {o1 : Nat} {d' b' : Nat} {P : Option WV → GH → Prop} {PX : String → Nat → GH → Prop}
    (e1 : a4 = some o1)
    (hkr : hp_kd G o1 = 27)
    (hC : wk_C w mJ28_equals d' b' [vR (some o1), vR a12] G P PX)
    (hdp : d' + 1 ≤ j.1)
    (hb : b' ≤ r)
    (kr : ∀ v G', P v G' → wk_V w mJ26_putTreeVal j 82 [(1, vR a1), (2, vR a2), (3, vI x3), (4, vR a4), (5, vR a5), (6, vR a6), (7, vI x7), (8, vR a8), (9, vR a9), (12, vR a12)] (v.toList ++ []) G' (r - b'))
    (kx : ∀ E q G', PX E q G' → wk_T w mJ26_putTreeVal j 79 [(1, vR a1), (2, vR a2), (3, vI x3), (4, vR a4), (5, vR a5), (6, vR a6), (7, vI x7), (8, vR a8), (9, vR a9), (12, vR a12)] G' (r - b') E q)
    : wk_V w mJ26_putTreeVal j 75 [(1, vR a1), (2, vR a2), (3, vI x3), (4, vR a4), (5, vR a5), (6, vR a6), (7, vI x7), (8, vR a8), (9, vR a9), (12, vR a12)] [] G r := by
  refine wk_aload dJ26_putTreeVal_75 rfl ?_
  refine wk_aload dJ26_putTreeVal_77 rfl ?_
  refine wk_eAt 1 e1 rfl ?_
  exact wk_callU (n := 1) (x := ⟨"java/lang/Object", "equals", "(Ljava/lang/Object;)Z"⟩) "java/lang/Object" hC rfl (Or.inl (by decide +kernel)) q1095 q1049 q1048 (by show Cond.selects (hp_C (hp_kd G o1)) _ _ ∈ lw_all; rw [hkr]; exact q1078) q3225 q1081 (by decide +kernel) (Nat.le_of_ble_eq_true rfl) ⟨by show hp_kd G o1 ≠ 0; rw [hkr]; decide, by show hp_kd G o1 < 28; rw [hkr]; decide⟩ rfl rfl (Nat.le_of_ble_eq_true rfl) hdp hb dJ26_putTreeVal_79 kr kx
theorem blJ26_putTreeVal_82 {w : WD} {j : JB} {r : Nat} {G : GH} {a1 : Option Nat} {a2 : Option Nat} {x3 : Int32} {a4 : Option Nat} {a5 : Option Nat} {a6 : Option Nat} {x7 : Int32} {a8 : Option Nat} {a9 : Option Nat} {a12 : Option Nat} {s0 : Int32}
    (kt : s0 = 0 → wk_V w mJ26_putTreeVal j 88 [(1, vR a1), (2, vR a2), (3, vI x3), (4, vR a4), (5, vR a5), (6, vR a6), (7, vI x7), (8, vR a8), (9, vR a9), (12, vR a12)] [] G r)
    (kf : ¬ (s0 = 0) → wk_V w mJ26_putTreeVal j 85 [(9, vR a9)] [] G r)
    : wk_V w mJ26_putTreeVal j 82 [(1, vR a1), (2, vR a2), (3, vI x3), (4, vR a4), (5, vR a5), (6, vR a6), (7, vI x7), (8, vR a8), (9, vR a9), (12, vR a12)] [vI s0] G r := by
  exact wk_if_eq 88 dJ26_putTreeVal_82 (by decide) (fun h => (kt h)) (fun h => (wk_sub [(9, vR a9)] ⟨rfl, trivial⟩ (kf h)))
theorem blJ26_putTreeVal_85 {w : WD} {j : JB} {r : Nat} {G : GH} {a9 : Option Nat}
    (hP : j.2.2.1 (some (vR a9)) G)
    : wk_V w mJ26_putTreeVal j 85 [(9, vR a9)] [] G r := by
  refine wk_aload dJ26_putTreeVal_85 rfl ?_
  exact wk_areturn rfl (Or.inl ⟨_, rfl⟩) dJ26_putTreeVal_87 hP
theorem blJ26_putTreeVal_88 {w : WD} {j : JB} {r : Nat} {G : GH} {a1 : Option Nat} {a2 : Option Nat} {x3 : Int32} {a4 : Option Nat} {a5 : Option Nat} {a6 : Option Nat} {x7 : Int32} {a8 : Option Nat} {a9 : Option Nat} {a12 : Option Nat}
    (kt : ∀ o9, a6 = some o9 → wk_V w mJ26_putTreeVal j 104 [(1, vR a1), (2, vR a2), (3, vI x3), (4, vR a4), (5, vR a5), (6, vR a6), (7, vI x7), (8, vR a8), (9, vR a9), (12, vR a12)] [] G r)
    (kf : a6 = none → wk_V w mJ26_putTreeVal j 93 [(1, vR a1), (2, vR a2), (3, vI x3), (4, vR a4), (5, vR a5), (7, vI x7), (8, vR a8), (9, vR a9), (12, vR a12)] [] G r)
    : wk_V w mJ26_putTreeVal j 88 [(1, vR a1), (2, vR a2), (3, vI x3), (4, vR a4), (5, vR a5), (6, vR a6), (7, vI x7), (8, vR a8), (9, vR a9), (12, vR a12)] [] G r := by
  refine wk_aload dJ26_putTreeVal_88 rfl ?_
  exact wk_ifnonnull 104 dJ26_putTreeVal_90 (by decide) (fun o9 h => (kt o9 h)) (fun h => (wk_sub [(1, vR a1), (2, vR a2), (3, vI x3), (4, vR a4), (5, vR a5), (7, vI x7), (8, vR a8), (9, vR a9), (12, vR a12)] ⟨rfl, rfl, rfl, rfl, rfl, rfl, rfl, rfl, rfl, trivial⟩ (kf h)))
theorem blJ26_putTreeVal_93 {w : WD} {j : JB} {r : Nat} {G : GH} {a1 : Option Nat} {a2 : Option Nat} {x3 : Int32} {a4 : Option Nat} {a5 : Option Nat} {x7 : Int32} {a8 : Option Nat} {a9 : Option Nat} {a12 : Option Nat} {d' b' : Nat} {P : Option WV → GH → Prop} {PX : String → Nat → GH → Prop}
    (hC : wk_C w mJ7_comparableClassFor d' b' [vR a4] G P PX)
    (hdp : d' + 1 ≤ j.1)
    (hb : b' ≤ r)
    (kr : ∀ v G', P v G' → wk_V w mJ26_putTreeVal j 98 [(1, vR a1), (2, vR a2), (3, vI x3), (4, vR a4), (5, vR a5), (7, vI x7), (8, vR a8), (9, vR a9), (12, vR a12)] (v.toList ++ []) G' (r - b'))
    (kx : ∀ E q G', PX E q G' → wk_T w mJ26_putTreeVal j 95 [(1, vR a1), (2, vR a2), (3, vI x3), (4, vR a4), (5, vR a5), (7, vI x7), (8, vR a8), (9, vR a9), (12, vR a12)] G' (r - b') E q)
    : wk_V w mJ26_putTreeVal j 93 [(1, vR a1), (2, vR a2), (3, vI x3), (4, vR a4), (5, vR a5), (7, vI x7), (8, vR a8), (9, vR a9), (12, vR a12)] [] G r := by
  refine wk_aload dJ26_putTreeVal_93 rfl ?_
  exact wk_callS hC rfl q1096 q1097 q119 q1098 mdJ7_comparableClassFor (Nat.le_of_ble_eq_true rfl) rfl rfl (Nat.le_of_ble_eq_true rfl) hdp hb dJ26_putTreeVal_95 kr kx
theorem blJ26_putTreeVal_98 {w : WD} {j : JB} {r : Nat} {G : GH} {a1 : Option Nat} {a2 : Option Nat} {x3 : Int32} {a4 : Option Nat} {a5 : Option Nat} {x7 : Int32} {a8 : Option Nat} {a9 : Option Nat} {a12 : Option Nat} {sa0 : Option Nat}
    (kt : sa0 = none → wk_V w mJ26_putTreeVal j 119 [(1, vR a1), (2, vR a2), (3, vI x3), (4, vR a4), (5, vR a5), (6, vR sa0), (7, vI x7), (8, vR a8), (9, vR a9), (12, vR a12)] [] G r)
    (kf : ∀ o9, sa0 = some o9 → wk_V w mJ26_putTreeVal j 104 [(1, vR a1), (2, vR a2), (3, vI x3), (4, vR a4), (5, vR a5), (6, vR sa0), (7, vI x7), (8, vR a8), (9, vR a9), (12, vR a12)] [] G r)
    : wk_V w mJ26_putTreeVal j 98 [(1, vR a1), (2, vR a2), (3, vI x3), (4, vR a4), (5, vR a5), (7, vI x7), (8, vR a8), (9, vR a9), (12, vR a12)] [vR sa0] G r := by
  refine wk_dup dJ26_putTreeVal_98 rfl ?_
  refine wk_astore dJ26_putTreeVal_99 (Nat.le_of_ble_eq_true rfl) ?_
  exact wk_ifnull 119 dJ26_putTreeVal_101 (by decide) (fun h => (kt h)) (fun o9 h => (kf o9 h))
theorem blJ26_putTreeVal_104 {w : WD} {j : JB} {r : Nat} {G : GH} {a1 : Option Nat} {a2 : Option Nat} {x3 : Int32} {a4 : Option Nat} {a5 : Option Nat} {a6 : Option Nat} {x7 : Int32} {a8 : Option Nat} {a9 : Option Nat} {a12 : Option Nat} {d' b' : Nat} {P : Option WV → GH → Prop} {PX : String → Nat → GH → Prop}
    (hC : wk_C w mJ7_compareComparables d' b' [vR a6, vR a4, vR a12] G P PX)
    (hdp : d' + 1 ≤ j.1)
    (hb : b' ≤ r)
    (kr : ∀ v G', P v G' → wk_V w mJ26_putTreeVal j 113 [(1, vR a1), (2, vR a2), (3, vI x3), (4, vR a4), (5, vR a5), (6, vR a6), (7, vI x7), (8, vR a8), (9, vR a9), (12, vR a12)] (v.toList ++ []) G' (r - b'))
    (kx : ∀ E q G', PX E q G' → wk_T w mJ26_putTreeVal j 110 [(1, vR a1), (2, vR a2), (3, vI x3), (4, vR a4), (5, vR a5), (6, vR a6), (7, vI x7), (8, vR a8), (9, vR a9), (12, vR a12)] G' (r - b') E q)
    : wk_V w mJ26_putTreeVal j 104 [(1, vR a1), (2, vR a2), (3, vI x3), (4, vR a4), (5, vR a5), (6, vR a6), (7, vI x7), (8, vR a8), (9, vR a9), (12, vR a12)] [] G r := by
  refine wk_aload dJ26_putTreeVal_104 rfl ?_
  refine wk_aload dJ26_putTreeVal_106 rfl ?_
  refine wk_aload dJ26_putTreeVal_108 rfl ?_
  exact wk_callS hC rfl q1139 q1140 q119 q1141 mdJ7_compareComparables (Nat.le_of_ble_eq_true rfl) rfl rfl (Nat.le_of_ble_eq_true rfl) hdp hb dJ26_putTreeVal_110 kr kx
theorem blJ26_putTreeVal_113 {w : WD} {j : JB} {r : Nat} {G : GH} {a1 : Option Nat} {a2 : Option Nat} {x3 : Int32} {a4 : Option Nat} {a5 : Option Nat} {a6 : Option Nat} {x7 : Int32} {a8 : Option Nat} {a9 : Option Nat} {a12 : Option Nat} {s0 : Int32}
    (kt : ¬ (s0 = 0) → wk_V w mJ26_putTreeVal j 193 [(1, vR a1), (2, vR a2), (3, vI x3), (4, vR a4), (5, vR a5), (6, vR a6), (7, vI x7), (8, vR a8), (9, vR a9), (10, vI s0)] [] G r)
    (kf : s0 = 0 → wk_V w mJ26_putTreeVal j 119 [(1, vR a1), (2, vR a2), (3, vI x3), (4, vR a4), (5, vR a5), (6, vR a6), (7, vI x7), (8, vR a8), (9, vR a9), (12, vR a12)] [] G r)
    : wk_V w mJ26_putTreeVal j 113 [(1, vR a1), (2, vR a2), (3, vI x3), (4, vR a4), (5, vR a5), (6, vR a6), (7, vI x7), (8, vR a8), (9, vR a9), (12, vR a12)] [vI s0] G r := by
  refine wk_dup dJ26_putTreeVal_113 rfl ?_
  refine wk_istore dJ26_putTreeVal_114 (Nat.le_of_ble_eq_true rfl) ?_
  exact wk_if_ne 193 dJ26_putTreeVal_116 (by decide) (fun h => (wk_sub [(1, vR a1), (2, vR a2), (3, vI x3), (4, vR a4), (5, vR a5), (6, vR a6), (7, vI x7), (8, vR a8), (9, vR a9), (10, vI s0)] ⟨rfl, rfl, rfl, rfl, rfl, rfl, rfl, rfl, rfl, rfl, trivial⟩ (kt h))) (fun h => (wk_sub [(1, vR a1), (2, vR a2), (3, vI x3), (4, vR a4), (5, vR a5), (6, vR a6), (7, vI x7), (8, vR a8), (9, vR a9), (12, vR a12)] ⟨rfl, rfl, rfl, rfl, rfl, rfl, rfl, rfl, rfl, rfl, trivial⟩ (kf h)))
theorem blJ26_putTreeVal_119 {w : WD} {j : JB} {r : Nat} {G : GH} {a1 : Option Nat} {a2 : Option Nat} {x3 : Int32} {a4 : Option Nat} {a5 : Option Nat} {a6 : Option Nat} {x7 : Int32} {a8 : Option Nat} {a9 : Option Nat} {a12 : Option Nat}
    (kt : ¬ (x7 = 0) → wk_V w mJ26_putTreeVal j 184 [(1, vR a1), (2, vR a2), (3, vI x3), (4, vR a4), (5, vR a5), (6, vR a6), (7, vI x7), (8, vR a8), (9, vR a9), (12, vR a12)] [] G r)
    (kf : x7 = 0 → wk_V w mJ26_putTreeVal j 124 [(1, vR a1), (2, vR a2), (3, vI x3), (4, vR a4), (5, vR a5), (6, vR a6), (8, vR a8), (9, vR a9), (12, vR a12)] [] G r)
    : wk_V w mJ26_putTreeVal j 119 [(1, vR a1), (2, vR a2), (3, vI x3), (4, vR a4), (5, vR a5), (6, vR a6), (7, vI x7), (8, vR a8), (9, vR a9), (12, vR a12)] [] G r := by
  refine wk_iload dJ26_putTreeVal_119 rfl ?_
  exact wk_if_ne 184 dJ26_putTreeVal_121 (by decide) (fun h => (kt h)) (fun h => (wk_sub [(1, vR a1), (2, vR a2), (3, vI x3), (4, vR a4), (5, vR a5), (6, vR a6), (8, vR a8), (9, vR a9), (12, vR a12)] ⟨rfl, rfl, rfl, rfl, rfl, rfl, rfl, rfl, rfl, trivial⟩ (kf h)))
theorem blJ26_putTreeVal_124 {w : WD} {j : JB} {r : Nat} {G : GH} {a1 : Option Nat} {a2 : Option Nat} {x3 : Int32} {a4 : Option Nat} {a5 : Option Nat} {a6 : Option Nat} {a8 : Option Nat} {a9 : Option Nat} {a12 : Option Nat} {o1 : Nat}
    (e1 : a9 = some o1)
    (hk2 : hp_kd G o1 = 25)
    (kt : (hp_r G o1 5) = none → wk_V w mJ26_putTreeVal j 154 [(1, vR a1), (2, vR a2), (3, vI x3), (4, vR a4), (5, vR a5), (6, vR a6), (7, vI (1 : Int32)), (8, vR a8), (9, vR a9), (12, vR a12)] [] G r)
    (kf : ∀ o9, (hp_r G o1 5) = some o9 → wk_V w mJ26_putTreeVal j 138 [(1, vR a1), (2, vR a2), (3, vI x3), (4, vR a4), (5, vR a5), (6, vR a6), (7, vI (1 : Int32)), (8, vR a8), (9, vR a9), (12, vR a12), (14, vR (hp_r G o1 5))] [] G r)
    : wk_V w mJ26_putTreeVal j 124 [(1, vR a1), (2, vR a2), (3, vI x3), (4, vR a4), (5, vR a5), (6, vR a6), (8, vR a8), (9, vR a9), (12, vR a12)] [] G r := by
  refine wk_iconst (1 : Int32) dJ26_putTreeVal_124 (by decide) ?_
  refine wk_istore dJ26_putTreeVal_125 (Nat.le_of_ble_eq_true rfl) ?_
  refine wk_aload dJ26_putTreeVal_127 rfl ?_
  refine wk_e e1 ?_
  refine wk_getR 25 5 flJ26_39 rfl hk2 dJ26_putTreeVal_129 ?_
  refine wk_dup dJ26_putTreeVal_132 rfl ?_
  refine wk_astore dJ26_putTreeVal_133 (Nat.le_of_ble_eq_true rfl) ?_
  exact wk_ifnull 154 dJ26_putTreeVal_135 (by decide) (fun h => (wk_sub [(1, vR a1), (2, vR a2), (3, vI x3), (4, vR a4), (5, vR a5), (6, vR a6), (7, vI (1 : Int32)), (8, vR a8), (9, vR a9), (12, vR a12)] ⟨rfl, rfl, rfl, rfl, rfl, rfl, rfl, rfl, rfl, rfl, trivial⟩ (kt h))) (fun o9 h => (kf o9 h))
theorem blJ26_putTreeVal_138 {w : WD} {j : JB} {r : Nat} {G : GH} {a1 : Option Nat} {a2 : Option Nat} {x3 : Int32} {a4 : Option Nat} {a5 : Option Nat} {a6 : Option Nat} {x7 : Int32} {a8 : Option Nat} {a9 : Option Nat} {a12 : Option Nat} {a14 : Option Nat} {o1 : Nat} {d' b' : Nat} {P : Option WV → GH → Prop} {PX : String → Nat → GH → Prop}
    (e1 : a14 = some o1)
    (hkr : hp_kd G o1 = 25)
    (hC : wk_C w mJ26_find d' b' [vR (some o1), vI x3, vR a4, vR a6] G P PX)
    (hdp : d' + 1 ≤ j.1)
    (hb : b' ≤ r)
    (kr : ∀ v G', P v G' → wk_V w mJ26_putTreeVal j 148 [(1, vR a1), (2, vR a2), (3, vI x3), (4, vR a4), (5, vR a5), (6, vR a6), (7, vI x7), (8, vR a8), (9, vR a9), (12, vR a12)] (v.toList ++ []) G' (r - b'))
    (kx : ∀ E q G', PX E q G' → wk_T w mJ26_putTreeVal j 145 [(1, vR a1), (2, vR a2), (3, vI x3), (4, vR a4), (5, vR a5), (6, vR a6), (7, vI x7), (8, vR a8), (9, vR a9), (12, vR a12), (14, vR a14)] G' (r - b') E q)
    : wk_V w mJ26_putTreeVal j 138 [(1, vR a1), (2, vR a2), (3, vI x3), (4, vR a4), (5, vR a5), (6, vR a6), (7, vI x7), (8, vR a8), (9, vR a9), (12, vR a12), (14, vR a14)] [] G r := by
  refine wk_aload dJ26_putTreeVal_138 rfl ?_
  refine wk_iload_n 3 dJ26_putTreeVal_140 rfl rfl ?_
  refine wk_aload dJ26_putTreeVal_141 rfl ?_
  refine wk_aload dJ26_putTreeVal_143 rfl ?_
  refine wk_eAt 3 e1 rfl ?_
  exact wk_callV hC rfl q1091 q1092 q1093 q149 q1094 mdJ26_find (Nat.le_of_ble_eq_true rfl) ⟨by show hp_kd G o1 ≠ 0; rw [hkr]; decide, by show hp_kd G o1 < 28; rw [hkr]; decide, by show hp_C (hp_kd G o1) = _; rw [hkr]; rfl⟩ rfl rfl (Nat.le_of_ble_eq_true rfl) hdp hb dJ26_putTreeVal_145 (fun v G' h => (wk_sub [(1, vR a1), (2, vR a2), (3, vI x3), (4, vR a4), (5, vR a5), (6, vR a6), (7, vI x7), (8, vR a8), (9, vR a9), (12, vR a12)] ⟨rfl, rfl, rfl, rfl, rfl, rfl, rfl, rfl, rfl, rfl, trivial⟩ (kr v G' h))) kx
theorem blJ26_putTreeVal_148 {w : WD} {j : JB} {r : Nat} {G : GH} {a1 : Option Nat} {a2 : Option Nat} {x3 : Int32} {a4 : Option Nat} {a5 : Option Nat} {a6 : Option Nat} {x7 : Int32} {a8 : Option Nat} {a9 : Option Nat} {a12 : Option Nat} {sa0 : Option Nat}
    (kt : ∀ o9, sa0 = some o9 → wk_V w mJ26_putTreeVal j 181 [(13, vR sa0)] [] G r)
    (kf : sa0 = none → wk_V w mJ26_putTreeVal j 154 [(1, vR a1), (2, vR a2), (3, vI x3), (4, vR a4), (5, vR a5), (6, vR a6), (7, vI x7), (8, vR a8), (9, vR a9), (12, vR a12)] [] G r)
    : wk_V w mJ26_putTreeVal j 148 [(1, vR a1), (2, vR a2), (3, vI x3), (4, vR a4), (5, vR a5), (6, vR a6), (7, vI x7), (8, vR a8), (9, vR a9), (12, vR a12)] [vR sa0] G r := by
  refine wk_dup dJ26_putTreeVal_148 rfl ?_
  refine wk_astore dJ26_putTreeVal_149 (Nat.le_of_ble_eq_true rfl) ?_
  exact wk_ifnonnull 181 dJ26_putTreeVal_151 (by decide) (fun o9 h => (wk_sub [(13, vR sa0)] ⟨rfl, trivial⟩ (kt o9 h))) (fun h => (wk_sub [(1, vR a1), (2, vR a2), (3, vI x3), (4, vR a4), (5, vR a5), (6, vR a6), (7, vI x7), (8, vR a8), (9, vR a9), (12, vR a12)] ⟨rfl, rfl, rfl, rfl, rfl, rfl, rfl, rfl, rfl, rfl, trivial⟩ (kf h)))
theorem blJ26_putTreeVal_154 {w : WD} {j : JB} {r : Nat} {G : GH} {a1 : Option Nat} {a2 : Option Nat} {x3 : Int32} {a4 : Option Nat} {a5 : Option Nat} {a6 : Option Nat} {x7 : Int32} {a8 : Option Nat} {a9 : Option Nat} {a12 : Option Nat} {o1 : Nat}
    (e1 : a9 = some o1)
    (hk2 : hp_kd G o1 = 25)
    (kt : (hp_r G o1 6) = none → wk_V w mJ26_putTreeVal j 184 [(1, vR a1), (2, vR a2), (3, vI x3), (4, vR a4), (5, vR a5), (6, vR a6), (7, vI x7), (8, vR a8), (9, vR a9), (12, vR a12)] [] G r)
    (kf : ∀ o9, (hp_r G o1 6) = some o9 → wk_V w mJ26_putTreeVal j 165 [(1, vR a1), (2, vR a2), (3, vI x3), (4, vR a4), (5, vR a5), (6, vR a6), (7, vI x7), (8, vR a8), (9, vR a9), (12, vR a12), (14, vR (hp_r G o1 6))] [] G r)
    : wk_V w mJ26_putTreeVal j 154 [(1, vR a1), (2, vR a2), (3, vI x3), (4, vR a4), (5, vR a5), (6, vR a6), (7, vI x7), (8, vR a8), (9, vR a9), (12, vR a12)] [] G r := by
  refine wk_aload dJ26_putTreeVal_154 rfl ?_
  refine wk_e e1 ?_
  refine wk_getR 25 6 flJ26_42 rfl hk2 dJ26_putTreeVal_156 ?_
  refine wk_dup dJ26_putTreeVal_159 rfl ?_
  refine wk_astore dJ26_putTreeVal_160 (Nat.le_of_ble_eq_true rfl) ?_
  exact wk_ifnull 184 dJ26_putTreeVal_162 (by decide) (fun h => (wk_sub [(1, vR a1), (2, vR a2), (3, vI x3), (4, vR a4), (5, vR a5), (6, vR a6), (7, vI x7), (8, vR a8), (9, vR a9), (12, vR a12)] ⟨rfl, rfl, rfl, rfl, rfl, rfl, rfl, rfl, rfl, rfl, trivial⟩ (kt h))) (fun o9 h => (kf o9 h))
theorem blJ26_putTreeVal_165 {w : WD} {j : JB} {r : Nat} {G : GH} {a1 : Option Nat} {a2 : Option Nat} {x3 : Int32} {a4 : Option Nat} {a5 : Option Nat} {a6 : Option Nat} {x7 : Int32} {a8 : Option Nat} {a9 : Option Nat} {a12 : Option Nat} {a14 : Option Nat} {o1 : Nat} {d' b' : Nat} {P : Option WV → GH → Prop} {PX : String → Nat → GH → Prop}
    (e1 : a14 = some o1)
    (hkr : hp_kd G o1 = 25)
    (hC : wk_C w mJ26_find d' b' [vR (some o1), vI x3, vR a4, vR a6] G P PX)
    (hdp : d' + 1 ≤ j.1)
    (hb : b' ≤ r)
    (kr : ∀ v G', P v G' → wk_V w mJ26_putTreeVal j 175 [(1, vR a1), (2, vR a2), (3, vI x3), (4, vR a4), (5, vR a5), (6, vR a6), (7, vI x7), (8, vR a8), (9, vR a9), (12, vR a12)] (v.toList ++ []) G' (r - b'))
    (kx : ∀ E q G', PX E q G' → wk_T w mJ26_putTreeVal j 172 [(1, vR a1), (2, vR a2), (3, vI x3), (4, vR a4), (5, vR a5), (6, vR a6), (7, vI x7), (8, vR a8), (9, vR a9), (12, vR a12), (14, vR a14)] G' (r - b') E q)
    : wk_V w mJ26_putTreeVal j 165 [(1, vR a1), (2, vR a2), (3, vI x3), (4, vR a4), (5, vR a5), (6, vR a6), (7, vI x7), (8, vR a8), (9, vR a9), (12, vR a12), (14, vR a14)] [] G r := by
  refine wk_aload dJ26_putTreeVal_165 rfl ?_
  refine wk_iload_n 3 dJ26_putTreeVal_167 rfl rfl ?_
  refine wk_aload dJ26_putTreeVal_168 rfl ?_
  refine wk_aload dJ26_putTreeVal_170 rfl ?_
  refine wk_eAt 3 e1 rfl ?_
  exact wk_callV hC rfl q1091 q1092 q1093 q149 q1094 mdJ26_find (Nat.le_of_ble_eq_true rfl) ⟨by show hp_kd G o1 ≠ 0; rw [hkr]; decide, by show hp_kd G o1 < 28; rw [hkr]; decide, by show hp_C (hp_kd G o1) = _; rw [hkr]; rfl⟩ rfl rfl (Nat.le_of_ble_eq_true rfl) hdp hb dJ26_putTreeVal_172 (fun v G' h => (wk_sub [(1, vR a1), (2, vR a2), (3, vI x3), (4, vR a4), (5, vR a5), (6, vR a6), (7, vI x7), (8, vR a8), (9, vR a9), (12, vR a12)] ⟨rfl, rfl, rfl, rfl, rfl, rfl, rfl, rfl, rfl, rfl, trivial⟩ (kr v G' h))) kx
theorem blJ26_putTreeVal_175 {w : WD} {j : JB} {r : Nat} {G : GH} {a1 : Option Nat} {a2 : Option Nat} {x3 : Int32} {a4 : Option Nat} {a5 : Option Nat} {a6 : Option Nat} {x7 : Int32} {a8 : Option Nat} {a9 : Option Nat} {a12 : Option Nat} {sa0 : Option Nat}
    (kt : sa0 = none → wk_V w mJ26_putTreeVal j 184 [(1, vR a1), (2, vR a2), (3, vI x3), (4, vR a4), (5, vR a5), (6, vR a6), (7, vI x7), (8, vR a8), (9, vR a9), (12, vR a12)] [] G r)
    (kf : ∀ o9, sa0 = some o9 → wk_V w mJ26_putTreeVal j 181 [(13, vR sa0)] [] G r)
    : wk_V w mJ26_putTreeVal j 175 [(1, vR a1), (2, vR a2), (3, vI x3), (4, vR a4), (5, vR a5), (6, vR a6), (7, vI x7), (8, vR a8), (9, vR a9), (12, vR a12)] [vR sa0] G r := by
  refine wk_dup dJ26_putTreeVal_175 rfl ?_
  refine wk_astore dJ26_putTreeVal_176 (Nat.le_of_ble_eq_true rfl) ?_
  exact wk_ifnull 184 dJ26_putTreeVal_178 (by decide) (fun h => (wk_sub [(1, vR a1), (2, vR a2), (3, vI x3), (4, vR a4), (5, vR a5), (6, vR a6), (7, vI x7), (8, vR a8), (9, vR a9), (12, vR a12)] ⟨rfl, rfl, rfl, rfl, rfl, rfl, rfl, rfl, rfl, rfl, trivial⟩ (kt h))) (fun o9 h => (wk_sub [(13, vR sa0)] ⟨rfl, trivial⟩ (kf o9 h)))
theorem blJ26_putTreeVal_181 {w : WD} {j : JB} {r : Nat} {G : GH} {a13 : Option Nat}
    (hP : j.2.2.1 (some (vR a13)) G)
    : wk_V w mJ26_putTreeVal j 181 [(13, vR a13)] [] G r := by
  refine wk_aload dJ26_putTreeVal_181 rfl ?_
  exact wk_areturn rfl (Or.inl ⟨_, rfl⟩) dJ26_putTreeVal_183 hP
-- blJ26_putTreeVal_184: left out (call without a link)
theorem blJ26_putTreeVal_193 {w : WD} {j : JB} {r : Nat} {G : GH} {a1 : Option Nat} {a2 : Option Nat} {x3 : Int32} {a4 : Option Nat} {a5 : Option Nat} {a6 : Option Nat} {x7 : Int32} {a8 : Option Nat} {a9 : Option Nat} {x10 : Int32}
    (kt : 0 < x10 → wk_V w mJ26_putTreeVal j 210 [(1, vR a1), (2, vR a2), (3, vI x3), (4, vR a4), (5, vR a5), (6, vR a6), (7, vI x7), (8, vR a8), (9, vR a9), (10, vI x10), (13, vR a9)] [] G r)
    (kf : ¬ (0 < x10) → wk_V w mJ26_putTreeVal j 202 [(1, vR a1), (2, vR a2), (3, vI x3), (4, vR a4), (5, vR a5), (6, vR a6), (7, vI x7), (8, vR a8), (9, vR a9), (10, vI x10), (13, vR a9)] [] G r)
    : wk_V w mJ26_putTreeVal j 193 [(1, vR a1), (2, vR a2), (3, vI x3), (4, vR a4), (5, vR a5), (6, vR a6), (7, vI x7), (8, vR a8), (9, vR a9), (10, vI x10)] [] G r := by
  refine wk_aload dJ26_putTreeVal_193 rfl ?_
  refine wk_astore dJ26_putTreeVal_195 (Nat.le_of_ble_eq_true rfl) ?_
  refine wk_iload dJ26_putTreeVal_197 rfl ?_
  exact wk_if_gt 210 dJ26_putTreeVal_199 (by decide) (fun h => (kt h)) (fun h => (kf h))
theorem blJ26_putTreeVal_202 {w : WD} {j : JB} {r : Nat} {G : GH} {a1 : Option Nat} {a2 : Option Nat} {x3 : Int32} {a4 : Option Nat} {a5 : Option Nat} {a6 : Option Nat} {x7 : Int32} {a8 : Option Nat} {a9 : Option Nat} {x10 : Int32} {a13 : Option Nat} {o1 : Nat}
    (e1 : a9 = some o1)
    (hk2 : hp_kd G o1 = 25)
    (k : wk_V w mJ26_putTreeVal j 215 [(1, vR a1), (2, vR a2), (3, vI x3), (4, vR a4), (5, vR a5), (6, vR a6), (7, vI x7), (8, vR a8), (10, vI x10), (13, vR a13)] [vR (hp_r G o1 5)] G r)
    : wk_V w mJ26_putTreeVal j 202 [(1, vR a1), (2, vR a2), (3, vI x3), (4, vR a4), (5, vR a5), (6, vR a6), (7, vI x7), (8, vR a8), (9, vR a9), (10, vI x10), (13, vR a13)] [] G r := by
  refine wk_aload dJ26_putTreeVal_202 rfl ?_
  refine wk_e e1 ?_
  refine wk_getR 25 5 flJ26_39 rfl hk2 dJ26_putTreeVal_204 ?_
  exact wk_goto 215 dJ26_putTreeVal_207 (by decide) (wk_sub [(1, vR a1), (2, vR a2), (3, vI x3), (4, vR a4), (5, vR a5), (6, vR a6), (7, vI x7), (8, vR a8), (10, vI x10), (13, vR a13)] ⟨rfl, rfl, rfl, rfl, rfl, rfl, rfl, rfl, rfl, rfl, trivial⟩ k)
theorem blJ26_putTreeVal_210 {w : WD} {j : JB} {r : Nat} {G : GH} {a1 : Option Nat} {a2 : Option Nat} {x3 : Int32} {a4 : Option Nat} {a5 : Option Nat} {a6 : Option Nat} {x7 : Int32} {a8 : Option Nat} {a9 : Option Nat} {x10 : Int32} {a13 : Option Nat} {o1 : Nat}
    (e1 : a9 = some o1)
    (hk2 : hp_kd G o1 = 25)
    (k : wk_V w mJ26_putTreeVal j 215 [(1, vR a1), (2, vR a2), (3, vI x3), (4, vR a4), (5, vR a5), (6, vR a6), (7, vI x7), (8, vR a8), (10, vI x10), (13, vR a13)] [vR (hp_r G o1 6)] G r)
    : wk_V w mJ26_putTreeVal j 210 [(1, vR a1), (2, vR a2), (3, vI x3), (4, vR a4), (5, vR a5), (6, vR a6), (7, vI x7), (8, vR a8), (9, vR a9), (10, vI x10), (13, vR a13)] [] G r := by
  refine wk_aload dJ26_putTreeVal_210 rfl ?_
  refine wk_e e1 ?_
  refine wk_getR 25 6 flJ26_42 rfl hk2 dJ26_putTreeVal_212 ?_
  exact (wk_sub [(1, vR a1), (2, vR a2), (3, vI x3), (4, vR a4), (5, vR a5), (6, vR a6), (7, vI x7), (8, vR a8), (10, vI x10), (13, vR a13)] ⟨rfl, rfl, rfl, rfl, rfl, rfl, rfl, rfl, rfl, rfl, trivial⟩ k)
theorem blJ26_putTreeVal_215 {w : WD} {j : JB} {r : Nat} {G : GH} {a1 : Option Nat} {a2 : Option Nat} {x3 : Int32} {a4 : Option Nat} {a5 : Option Nat} {a6 : Option Nat} {x7 : Int32} {a8 : Option Nat} {x10 : Int32} {a13 : Option Nat} {sa0 : Option Nat}
    (kt : ∀ o9, sa0 = some o9 → wk_V w mJ26_putTreeVal j 311 [(1, vR a1), (2, vR a2), (3, vI x3), (4, vR a4), (5, vR a5), (6, vR a6), (7, vI x7), (8, vR a8), (9, vR sa0)] [] G r)
    (kf : sa0 = none → wk_V w mJ26_putTreeVal j 221 [(1, vR a1), (2, vR a2), (3, vI x3), (4, vR a4), (5, vR a5), (8, vR a8), (10, vI x10), (13, vR a13)] [] G r)
    : wk_V w mJ26_putTreeVal j 215 [(1, vR a1), (2, vR a2), (3, vI x3), (4, vR a4), (5, vR a5), (6, vR a6), (7, vI x7), (8, vR a8), (10, vI x10), (13, vR a13)] [vR sa0] G r := by
  refine wk_dup dJ26_putTreeVal_215 rfl ?_
  refine wk_astore dJ26_putTreeVal_216 (Nat.le_of_ble_eq_true rfl) ?_
  exact wk_ifnonnull 311 dJ26_putTreeVal_218 (by decide) (fun o9 h => (wk_sub [(1, vR a1), (2, vR a2), (3, vI x3), (4, vR a4), (5, vR a5), (6, vR a6), (7, vI x7), (8, vR a8), (9, vR sa0)] ⟨rfl, rfl, rfl, rfl, rfl, rfl, rfl, rfl, rfl, trivial⟩ (kt o9 h))) (fun h => (wk_sub [(1, vR a1), (2, vR a2), (3, vI x3), (4, vR a4), (5, vR a5), (8, vR a8), (10, vI x10), (13, vR a13)] ⟨rfl, rfl, rfl, rfl, rfl, rfl, rfl, rfl, trivial⟩ (kf h)))
theorem blJ26_putTreeVal_221 {w : WD} {j : JB} {r : Nat} {G : GH} {a1 : Option Nat} {a2 : Option Nat} {x3 : Int32} {a4 : Option Nat} {a5 : Option Nat} {a8 : Option Nat} {x10 : Int32} {a13 : Option Nat} {o1 : Nat} {o3 : Nat} {d' b' : Nat} {P : Option WV → GH → Prop} {PX : String → Nat → GH → Prop}
    (e1 : a13 = some o1)
    (hk2 : hp_kd G o1 = 25)
    (e3 : a1 = some o3)
    (hkr : hp_kd G o3 = 23)
    (hC : wk_C w mJ7_newTreeNode d' b' [vR (some o3), vI x3, vR a4, vR a5, vR (hp_r G o1 3)] G P PX)
    (hdp : d' + 1 ≤ j.1)
    (hb : b' ≤ r)
    (kr : ∀ v G', P v G' → wk_V w mJ26_putTreeVal j 239 [(2, vR a2), (8, vR a8), (10, vI x10), (13, vR a13), (14, vR (hp_r G o1 3))] (v.toList ++ []) G' (r - b'))
    (kx : ∀ E q G', PX E q G' → wk_T w mJ26_putTreeVal j 236 [(1, vR a1), (2, vR a2), (3, vI x3), (4, vR a4), (5, vR a5), (8, vR a8), (10, vI x10), (13, vR a13), (14, vR (hp_r G o1 3))] G' (r - b') E q)
    : wk_V w mJ26_putTreeVal j 221 [(1, vR a1), (2, vR a2), (3, vI x3), (4, vR a4), (5, vR a5), (8, vR a8), (10, vI x10), (13, vR a13)] [] G r := by
  refine wk_aload dJ26_putTreeVal_221 rfl ?_
  refine wk_e e1 ?_
  refine wk_getR 25 3 flJ26_22 rfl hk2 dJ26_putTreeVal_223 ?_
  refine wk_astore dJ26_putTreeVal_226 (Nat.le_of_ble_eq_true rfl) ?_
  refine wk_aload_n 1 dJ26_putTreeVal_228 rfl rfl ?_
  refine wk_iload_n 3 dJ26_putTreeVal_229 rfl rfl ?_
  refine wk_aload dJ26_putTreeVal_230 rfl ?_
  refine wk_aload dJ26_putTreeVal_232 rfl ?_
  refine wk_aload dJ26_putTreeVal_234 rfl ?_
  refine wk_eAt 4 e3 rfl ?_
  exact wk_callV hC rfl q1647 q1648 q1649 q119 q1650 mdJ7_newTreeNode (Nat.le_of_ble_eq_true rfl) ⟨by show hp_kd G o3 ≠ 0; rw [hkr]; decide, by show hp_kd G o3 < 28; rw [hkr]; decide, by show hp_C (hp_kd G o3) = _; rw [hkr]; rfl⟩ rfl rfl (Nat.le_of_ble_eq_true rfl) hdp hb dJ26_putTreeVal_236 (fun v G' h => (wk_sub [(2, vR a2), (8, vR a8), (10, vI x10), (13, vR a13), (14, vR (hp_r G o1 3))] ⟨rfl, rfl, rfl, rfl, rfl, trivial⟩ (kr v G' h))) kx
theorem blJ26_putTreeVal_239 {w : WD} {j : JB} {r : Nat} {G : GH} {a2 : Option Nat} {a8 : Option Nat} {x10 : Int32} {a13 : Option Nat} {a14 : Option Nat} {sa0 : Option Nat}
    (kt : 0 < x10 → wk_V w mJ26_putTreeVal j 256 [(2, vR a2), (8, vR a8), (13, vR a13), (14, vR a14), (15, vR sa0)] [] G r)
    (kf : ¬ (0 < x10) → wk_V w mJ26_putTreeVal j 246 [(2, vR a2), (8, vR a8), (13, vR a13), (14, vR a14), (15, vR sa0)] [] G r)
    : wk_V w mJ26_putTreeVal j 239 [(2, vR a2), (8, vR a8), (10, vI x10), (13, vR a13), (14, vR a14)] [vR sa0] G r := by
  refine wk_astore dJ26_putTreeVal_239 (Nat.le_of_ble_eq_true rfl) ?_
  refine wk_iload dJ26_putTreeVal_241 rfl ?_
  exact wk_if_gt 256 dJ26_putTreeVal_243 (by decide) (fun h => (wk_sub [(2, vR a2), (8, vR a8), (13, vR a13), (14, vR a14), (15, vR sa0)] ⟨rfl, rfl, rfl, rfl, rfl, trivial⟩ (kt h))) (fun h => (wk_sub [(2, vR a2), (8, vR a8), (13, vR a13), (14, vR a14), (15, vR sa0)] ⟨rfl, rfl, rfl, rfl, rfl, trivial⟩ (kf h)))
theorem blJ26_putTreeVal_246 {w : WD} {j : JB} {r : Nat} {G : GH} {a2 : Option Nat} {a8 : Option Nat} {a13 : Option Nat} {a14 : Option Nat} {a15 : Option Nat} {o1 : Nat}
    (e1 : a13 = some o1)
    (hk2 : hp_kd G o1 = 25)
    (hA3 : hp_A w o1)
    (k : wk_V w mJ26_putTreeVal j 263 [(2, vR a2), (8, vR a8), (13, vR a13), (14, vR a14), (15, vR a15)] [] (hp_sR G o1 5 a15) r)
    : wk_V w mJ26_putTreeVal j 246 [(2, vR a2), (8, vR a8), (13, vR a13), (14, vR a14), (15, vR a15)] [] G r := by
  refine wk_aload dJ26_putTreeVal_246 rfl ?_
  refine wk_aload dJ26_putTreeVal_248 rfl ?_
  refine wk_e2 e1 ?_
  refine wk_putR 25 5 flJ26_39 rfl (Or.inl rfl) hk2 hA3 dJ26_putTreeVal_250 ?_
  exact wk_goto 263 dJ26_putTreeVal_253 (by decide) k
theorem blJ26_putTreeVal_256 {w : WD} {j : JB} {r : Nat} {G : GH} {a2 : Option Nat} {a8 : Option Nat} {a13 : Option Nat} {a14 : Option Nat} {a15 : Option Nat} {o1 : Nat}
    (e1 : a13 = some o1)
    (hk2 : hp_kd G o1 = 25)
    (hA3 : hp_A w o1)
    (k : wk_V w mJ26_putTreeVal j 263 [(2, vR a2), (8, vR a8), (13, vR a13), (14, vR a14), (15, vR a15)] [] (hp_sR G o1 6 a15) r)
    : wk_V w mJ26_putTreeVal j 256 [(2, vR a2), (8, vR a8), (13, vR a13), (14, vR a14), (15, vR a15)] [] G r := by
  refine wk_aload dJ26_putTreeVal_256 rfl ?_
  refine wk_aload dJ26_putTreeVal_258 rfl ?_
  refine wk_e2 e1 ?_
  refine wk_putR 25 6 flJ26_42 rfl (Or.inl rfl) hk2 hA3 dJ26_putTreeVal_260 ?_
  exact k
theorem blJ26_putTreeVal_263 {w : WD} {j : JB} {r : Nat} {G : GH} {a2 : Option Nat} {a8 : Option Nat} {a13 : Option Nat} {a14 : Option Nat} {a15 : Option Nat} {o1 : Nat} {o4 : Nat}
    (e1 : a13 = some o1)
    (hk2 : hp_kd G o1 = 25)
    (hA3 : hp_A w o1)
    (e4 : a15 = some o4)
    (hk5 : hp_kd G o4 = 25)
    (hA6 : hp_A w o4)
    (k : wk_V w mJ26_putTreeVal j 280 [(2, vR a2), (8, vR a8), (14, vR a14), (15, vR a15)] [vR a13, vR a15] (hp_sR (hp_sR G o1 3 a15) o4 7 a13) r)
    : wk_V w mJ26_putTreeVal j 263 [(2, vR a2), (8, vR a8), (13, vR a13), (14, vR a14), (15, vR a15)] [] G r := by
  refine wk_aload dJ26_putTreeVal_263 rfl ?_
  refine wk_aload dJ26_putTreeVal_265 rfl ?_
  refine wk_e2 e1 ?_
  refine wk_putR 25 3 flJ26_22 rfl (Or.inl rfl) hk2 hA3 dJ26_putTreeVal_267 ?_
  refine wk_aload dJ26_putTreeVal_270 rfl ?_
  refine wk_aload dJ26_putTreeVal_272 rfl ?_
  refine wk_aload dJ26_putTreeVal_274 rfl ?_
  refine wk_dup_x1 dJ26_putTreeVal_276 rfl rfl ?_
  refine wk_e2 e4 ?_
  refine wk_putR 25 7 flJ26_19 rfl (Or.inl rfl) hk5 hA6 dJ26_putTreeVal_277 ?_
  exact (wk_sub [(2, vR a2), (8, vR a8), (14, vR a14), (15, vR a15)] ⟨rfl, rfl, rfl, rfl, trivial⟩ k)
theorem blJ26_putTreeVal_280 {w : WD} {j : JB} {r : Nat} {G : GH} {a2 : Option Nat} {a8 : Option Nat} {a14 : Option Nat} {a15 : Option Nat} {sa0 : Option Nat} {sa1 : Option Nat} {o1 : Nat}
    (e1 : sa0 = some o1)
    (hk2 : hp_kd G o1 = 25)
    (hA3 : hp_A w o1)
    (kt : a14 = none → wk_V w mJ26_putTreeVal j 298 [(2, vR a2), (8, vR a8), (15, vR a15)] [] (hp_sR G o1 4 sa1) r)
    (kf : ∀ o9, a14 = some o9 → wk_V w mJ26_putTreeVal j 288 [(2, vR a2), (8, vR a8), (14, vR a14), (15, vR a15)] [] (hp_sR G o1 4 sa1) r)
    : wk_V w mJ26_putTreeVal j 280 [(2, vR a2), (8, vR a8), (14, vR a14), (15, vR a15)] [vR sa1, vR sa0] G r := by
  refine wk_e2 e1 ?_
  refine wk_putR 25 4 flJ26_9 rfl (Or.inl rfl) hk2 hA3 dJ26_putTreeVal_280 ?_
  refine wk_aload dJ26_putTreeVal_283 rfl ?_
  exact wk_ifnull 298 dJ26_putTreeVal_285 (by decide) (fun h => (wk_sub [(2, vR a2), (8, vR a8), (15, vR a15)] ⟨rfl, rfl, rfl, trivial⟩ (kt h))) (fun o9 h => (kf o9 h))
theorem blJ26_putTreeVal_288 {w : WD} {j : JB} {r : Nat} {G : GH} {a2 : Option Nat} {a8 : Option Nat} {a14 : Option Nat} {a15 : Option Nat} {o2 : Nat}
    (hc1 : ∀ a, a14 = some a → hp_kd G a ≠ 0 ∧ hp_kd G a < 28 ∧ hp_sub (hp_kd G a) "java/util/HashMap$TreeNode")
    (e2 : a14 = some o2)
    (hk3 : hp_kd G o2 = 25)
    (hA4 : hp_A w o2)
    (k : wk_V w mJ26_putTreeVal j 298 [(2, vR a2), (8, vR a8), (15, vR a15)] [] (hp_sR G o2 7 a15) r)
    : wk_V w mJ26_putTreeVal j 288 [(2, vR a2), (8, vR a8), (14, vR a14), (15, vR a15)] [] G r := by
  refine wk_aload dJ26_putTreeVal_288 rfl ?_
  refine wk_castQ q1582 hc1 dJ26_putTreeVal_290 ?_
  refine wk_aload dJ26_putTreeVal_293 rfl ?_
  refine wk_e2 e2 ?_
  refine wk_putR 25 7 flJ26_19 rfl (Or.inl rfl) hk3 hA4 dJ26_putTreeVal_295 ?_
  exact (wk_sub [(2, vR a2), (8, vR a8), (15, vR a15)] ⟨rfl, rfl, rfl, trivial⟩ k)
theorem blJ26_putTreeVal_298 {w : WD} {j : JB} {r : Nat} {G : GH} {a2 : Option Nat} {a8 : Option Nat} {a15 : Option Nat} {d' b' : Nat} {P : Option WV → GH → Prop} {PX : String → Nat → GH → Prop}
    (hC : wk_C w mJ26_balanceInsertion d' b' [vR a8, vR a15] G P PX)
    (hdp : d' + 1 ≤ j.1)
    (hb : b' ≤ r)
    (kr : ∀ v G', P v G' → wk_V w mJ26_putTreeVal j 306 [] (v.toList ++ [vR a2]) G' (r - b'))
    (kx : ∀ E q G', PX E q G' → wk_T w mJ26_putTreeVal j 303 [(2, vR a2), (8, vR a8), (15, vR a15)] G' (r - b') E q)
    : wk_V w mJ26_putTreeVal j 298 [(2, vR a2), (8, vR a8), (15, vR a15)] [] G r := by
  refine wk_aload_n 2 dJ26_putTreeVal_298 rfl rfl ?_
  refine wk_aload dJ26_putTreeVal_299 rfl ?_
  refine wk_aload dJ26_putTreeVal_301 rfl ?_
  exact wk_callS hC rfl q1625 q1626 q149 q1627 mdJ26_balanceInsertion (Nat.le_of_ble_eq_true rfl) rfl rfl (Nat.le_of_ble_eq_true rfl) hdp hb dJ26_putTreeVal_303 (fun v G' h => (wk_sub [] trivial (kr v G' h))) kx
theorem blJ26_putTreeVal_306 {w : WD} {j : JB} {r : Nat} {G : GH} {sa0 : Option Nat} {sa1 : Option Nat} {d' b' : Nat} {P : Option WV → GH → Prop} {PX : String → Nat → GH → Prop}
    (hC : wk_C w mJ26_moveRootToFront d' b' [vR sa0, vR sa1] G P PX)
    (hdp : d' + 1 ≤ j.1)
    (hb : b' ≤ r)
    (kr : ∀ v G', P v G' → wk_V w mJ26_putTreeVal j 309 [] (v.toList ++ []) G' (r - b'))
    (kx : ∀ E q G', PX E q G' → wk_T w mJ26_putTreeVal j 306 [] G' (r - b') E q)
    : wk_V w mJ26_putTreeVal j 306 [] [vR sa1, vR sa0] G r := by
  exact wk_callS hC rfl q1634 q1635 q149 q1636 mdJ26_moveRootToFront (Nat.le_of_ble_eq_true rfl) rfl rfl (Nat.le_of_ble_eq_true rfl) hdp hb dJ26_putTreeVal_306 kr kx
theorem blJ26_putTreeVal_309 {w : WD} {j : JB} {r : Nat} {G : GH}
    (hP : j.2.2.1 (some (vR none)) G)
    : wk_V w mJ26_putTreeVal j 309 [] [] G r := by
  refine wk_null dJ26_putTreeVal_309 ?_
  exact wk_areturn rfl (Or.inl ⟨_, rfl⟩) dJ26_putTreeVal_310 hP
theorem blJ26_putTreeVal_311 {w : WD} {j : JB} {r : Nat} {G : GH} {a1 : Option Nat} {a2 : Option Nat} {x3 : Int32} {a4 : Option Nat} {a5 : Option Nat} {a6 : Option Nat} {x7 : Int32} {a8 : Option Nat} {a9 : Option Nat}
    (k : wk_V w mJ26_putTreeVal j 27 [(1, vR a1), (2, vR a2), (3, vI x3), (4, vR a4), (5, vR a5), (6, vR a6), (7, vI x7), (8, vR a8), (9, vR a9)] [] G r)
    : wk_V w mJ26_putTreeVal j 311 [(1, vR a1), (2, vR a2), (3, vI x3), (4, vR a4), (5, vR a5), (6, vR a6), (7, vI x7), (8, vR a8), (9, vR a9)] [] G r := by
  exact wk_goto 27 dJ26_putTreeVal_311 (by decide) k
/-! java/util/HashMap$TreeNode.root()Ljava/util/HashMap$TreeNode; -/
theorem blJ26_root_0 {w : WD} {j : JB} {r : Nat} {G : GH} {a0 : Nat}
    (k : wk_V w mJ26_root j 2 [(1, vR (some a0))] [] G r)
    : wk_V w mJ26_root j 0 [(0, vR (some a0))] [] G r := by
  refine wk_aload_n 0 dJ26_root_0 rfl rfl ?_
  refine wk_astore_n 1 dJ26_root_1 rfl (Nat.le_of_ble_eq_true rfl) ?_
  exact (wk_sub [(1, vR (some a0))] ⟨rfl, trivial⟩ k)
theorem blJ26_root_2 {w : WD} {j : JB} {r : Nat} {G : GH} {a1 : Option Nat} {o1 : Nat}
    (e1 : a1 = some o1)
    (hk2 : hp_kd G o1 = 25)
    (kt : ∀ o9, (hp_r G o1 4) = some o9 → wk_V w mJ26_root j 13 [(2, vR (hp_r G o1 4))] [] G r)
    (kf : (hp_r G o1 4) = none → wk_V w mJ26_root j 11 [(1, vR a1)] [] G r)
    : wk_V w mJ26_root j 2 [(1, vR a1)] [] G r := by
  refine wk_aload_n 1 dJ26_root_2 rfl rfl ?_
  refine wk_e e1 ?_
  refine wk_getR 25 4 flJ26_9 rfl hk2 dJ26_root_3 ?_
  refine wk_dup dJ26_root_6 rfl ?_
  refine wk_astore_n 2 dJ26_root_7 rfl (Nat.le_of_ble_eq_true rfl) ?_
  exact wk_ifnonnull 13 dJ26_root_8 (by decide) (fun o9 h => (wk_sub [(2, vR (hp_r G o1 4))] ⟨rfl, trivial⟩ (kt o9 h))) (fun h => (wk_sub [(1, vR a1)] ⟨rfl, trivial⟩ (kf h)))
theorem blJ26_root_11 {w : WD} {j : JB} {r : Nat} {G : GH} {a1 : Option Nat}
    (hP : j.2.2.1 (some (vR a1)) G)
    : wk_V w mJ26_root j 11 [(1, vR a1)] [] G r := by
  refine wk_aload_n 1 dJ26_root_11 rfl rfl ?_
  exact wk_areturn rfl (Or.inl ⟨_, rfl⟩) dJ26_root_12 hP
theorem blJ26_root_13 {w : WD} {j : JB} {r : Nat} {G : GH} {a2 : Option Nat}
    (k : wk_V w mJ26_root j 2 [(1, vR a2)] [] G r)
    : wk_V w mJ26_root j 13 [(2, vR a2)] [] G r := by
  refine wk_aload_n 2 dJ26_root_13 rfl rfl ?_
  refine wk_astore_n 1 dJ26_root_14 rfl (Nat.le_of_ble_eq_true rfl) ?_
  exact wk_goto 2 dJ26_root_15 (by decide) (wk_sub [(1, vR a2)] ⟨rfl, trivial⟩ k)
/-! java/util/HashMap$TreeNode.rotateLeft(Ljava/util/HashMap$TreeNode;Ljava/util/HashMap$TreeNode;)Ljava/util/HashMap$TreeNode; -/
theorem blJ26_rotateLeft_0 {w : WD} {j : JB} {r : Nat} {G : GH} {a0 : Option Nat} {a1 : Option Nat}
    (kt : a1 = none → wk_V w mJ26_rotateLeft j 89 [(0, vR a0)] [] G r)
    (kf : ∀ o9, a1 = some o9 → wk_V w mJ26_rotateLeft j 4 [(0, vR a0), (1, vR a1)] [] G r)
    : wk_V w mJ26_rotateLeft j 0 [(0, vR a0), (1, vR a1)] [] G r := by
  refine wk_aload_n 1 dJ26_rotateLeft_0 rfl rfl ?_
  exact wk_ifnull 89 dJ26_rotateLeft_1 (by decide) (fun h => (wk_sub [(0, vR a0)] ⟨rfl, trivial⟩ (kt h))) (fun o9 h => (kf o9 h))
theorem blJ26_rotateLeft_4 {w : WD} {j : JB} {r : Nat} {G : GH} {a0 : Option Nat} {a1 : Option Nat} {o1 : Nat}
    (e1 : a1 = some o1)
    (hk2 : hp_kd G o1 = 25)
    (kt : (hp_r G o1 6) = none → wk_V w mJ26_rotateLeft j 89 [(0, vR a0)] [] G r)
    (kf : ∀ o9, (hp_r G o1 6) = some o9 → wk_V w mJ26_rotateLeft j 13 [(0, vR a0), (1, vR a1), (2, vR (hp_r G o1 6))] [] G r)
    : wk_V w mJ26_rotateLeft j 4 [(0, vR a0), (1, vR a1)] [] G r := by
  refine wk_aload_n 1 dJ26_rotateLeft_4 rfl rfl ?_
  refine wk_e e1 ?_
  refine wk_getR 25 6 flJ26_42 rfl hk2 dJ26_rotateLeft_5 ?_
  refine wk_dup dJ26_rotateLeft_8 rfl ?_
  refine wk_astore_n 2 dJ26_rotateLeft_9 rfl (Nat.le_of_ble_eq_true rfl) ?_
  exact wk_ifnull 89 dJ26_rotateLeft_10 (by decide) (fun h => (wk_sub [(0, vR a0)] ⟨rfl, trivial⟩ (kt h))) (fun o9 h => (kf o9 h))
theorem blJ26_rotateLeft_13 {w : WD} {j : JB} {r : Nat} {G : GH} {a0 : Option Nat} {a1 : Option Nat} {a2 : Option Nat} {o1 : Nat} {o3 : Nat}
    (e1 : a2 = some o1)
    (hk2 : hp_kd G o1 = 25)
    (e3 : a1 = some o3)
    (hk4 : hp_kd G o3 = 25)
    (hA5 : hp_A w o3)
    (kt : (hp_r G o1 5) = none → wk_V w mJ26_rotateLeft j 34 [(0, vR a0), (1, vR a1), (2, vR a2)] [] (hp_sR G o3 6 (hp_r G o1 5)) r)
    (kf : ∀ o9, (hp_r G o1 5) = some o9 → wk_V w mJ26_rotateLeft j 28 [(0, vR a0), (1, vR a1), (2, vR a2), (4, vR (hp_r G o1 5))] [] (hp_sR G o3 6 (hp_r G o1 5)) r)
    : wk_V w mJ26_rotateLeft j 13 [(0, vR a0), (1, vR a1), (2, vR a2)] [] G r := by
  refine wk_aload_n 1 dJ26_rotateLeft_13 rfl rfl ?_
  refine wk_aload_n 2 dJ26_rotateLeft_14 rfl rfl ?_
  refine wk_e e1 ?_
  refine wk_getR 25 5 flJ26_39 rfl hk2 dJ26_rotateLeft_15 ?_
  refine wk_dup_x1 dJ26_rotateLeft_18 rfl rfl ?_
  refine wk_e2 e3 ?_
  refine wk_putR 25 6 flJ26_42 rfl (Or.inl rfl) hk4 hA5 dJ26_rotateLeft_19 ?_
  refine wk_dup dJ26_rotateLeft_22 rfl ?_
  refine wk_astore dJ26_rotateLeft_23 (Nat.le_of_ble_eq_true rfl) ?_
  exact wk_ifnull 34 dJ26_rotateLeft_25 (by decide) (fun h => (wk_sub [(0, vR a0), (1, vR a1), (2, vR a2)] ⟨rfl, rfl, rfl, trivial⟩ (kt h))) (fun o9 h => (kf o9 h))
theorem blJ26_rotateLeft_28 {w : WD} {j : JB} {r : Nat} {G : GH} {a0 : Option Nat} {a1 : Option Nat} {a2 : Option Nat} {a4 : Option Nat} {o1 : Nat}
    (e1 : a4 = some o1)
    (hk2 : hp_kd G o1 = 25)
    (hA3 : hp_A w o1)
    (k : wk_V w mJ26_rotateLeft j 34 [(0, vR a0), (1, vR a1), (2, vR a2)] [] (hp_sR G o1 4 a1) r)
    : wk_V w mJ26_rotateLeft j 28 [(0, vR a0), (1, vR a1), (2, vR a2), (4, vR a4)] [] G r := by
  refine wk_aload dJ26_rotateLeft_28 rfl ?_
  refine wk_aload_n 1 dJ26_rotateLeft_30 rfl rfl ?_
  refine wk_e2 e1 ?_
  refine wk_putR 25 4 flJ26_9 rfl (Or.inl rfl) hk2 hA3 dJ26_rotateLeft_31 ?_
  exact (wk_sub [(0, vR a0), (1, vR a1), (2, vR a2)] ⟨rfl, rfl, rfl, trivial⟩ k)
theorem blJ26_rotateLeft_34 {w : WD} {j : JB} {r : Nat} {G : GH} {a0 : Option Nat} {a1 : Option Nat} {a2 : Option Nat} {o1 : Nat} {o3 : Nat}
    (e1 : a1 = some o1)
    (hk2 : hp_kd G o1 = 25)
    (e3 : a2 = some o3)
    (hk4 : hp_kd G o3 = 25)
    (hA5 : hp_A w o3)
    (kt : ∀ o9, (hp_r G o1 4) = some o9 → wk_V w mJ26_rotateLeft j 58 [(0, vR a0), (1, vR a1), (2, vR a2), (3, vR (hp_r G o1 4))] [] (hp_sR G o3 4 (hp_r G o1 4)) r)
    (kf : (hp_r G o1 4) = none → wk_V w mJ26_rotateLeft j 48 [(1, vR a1), (2, vR a2)] [] (hp_sR G o3 4 (hp_r G o1 4)) r)
    : wk_V w mJ26_rotateLeft j 34 [(0, vR a0), (1, vR a1), (2, vR a2)] [] G r := by
  refine wk_aload_n 2 dJ26_rotateLeft_34 rfl rfl ?_
  refine wk_aload_n 1 dJ26_rotateLeft_35 rfl rfl ?_
  refine wk_e e1 ?_
  refine wk_getR 25 4 flJ26_9 rfl hk2 dJ26_rotateLeft_36 ?_
  refine wk_dup_x1 dJ26_rotateLeft_39 rfl rfl ?_
  refine wk_e2 e3 ?_
  refine wk_putR 25 4 flJ26_9 rfl (Or.inl rfl) hk4 hA5 dJ26_rotateLeft_40 ?_
  refine wk_dup dJ26_rotateLeft_43 rfl ?_
  refine wk_astore_n 3 dJ26_rotateLeft_44 rfl (Nat.le_of_ble_eq_true rfl) ?_
  exact wk_ifnonnull 58 dJ26_rotateLeft_45 (by decide) (fun o9 h => (kt o9 h)) (fun h => (wk_sub [(1, vR a1), (2, vR a2)] ⟨rfl, rfl, trivial⟩ (kf h)))
theorem blJ26_rotateLeft_48 {w : WD} {j : JB} {r : Nat} {G : GH} {a1 : Option Nat} {a2 : Option Nat} {o1 : Nat}
    (e1 : a2 = some o1)
    (hk2 : hp_kd G o1 = 25)
    (hA3 : hp_A w o1)
    (k : wk_V w mJ26_rotateLeft j 79 [(0, vR a2), (1, vR a1), (2, vR a2)] [] (hp_sI G o1 8 (0 : Int32)) r)
    : wk_V w mJ26_rotateLeft j 48 [(1, vR a1), (2, vR a2)] [] G r := by
  refine wk_aload_n 2 dJ26_rotateLeft_48 rfl rfl ?_
  refine wk_dup dJ26_rotateLeft_49 rfl ?_
  refine wk_astore_n 0 dJ26_rotateLeft_50 rfl (Nat.le_of_ble_eq_true rfl) ?_
  refine wk_iconst (0 : Int32) dJ26_rotateLeft_51 (by decide) ?_
  refine wk_e2 e1 ?_
  refine wk_putI 25 8 flJ26_93 rfl (Or.inl rfl) hk2 hA3 ⟨rfl, rfl⟩ dJ26_rotateLeft_52 ?_
  exact wk_goto 79 dJ26_rotateLeft_55 (by decide) k
theorem blJ26_rotateLeft_58 {w : WD} {j : JB} {r : Nat} {G : GH} {a0 : Option Nat} {a1 : Option Nat} {a2 : Option Nat} {a3 : Option Nat} {o1 : Nat}
    (e1 : a3 = some o1)
    (hk2 : hp_kd G o1 = 25)
    (kt : ¬ ((hp_r G o1 5) = a1) → wk_V w mJ26_rotateLeft j 74 [(0, vR a0), (1, vR a1), (2, vR a2), (3, vR a3)] [] G r)
    (kf : (hp_r G o1 5) = a1 → wk_V w mJ26_rotateLeft j 66 [(0, vR a0), (1, vR a1), (2, vR a2), (3, vR a3)] [] G r)
    : wk_V w mJ26_rotateLeft j 58 [(0, vR a0), (1, vR a1), (2, vR a2), (3, vR a3)] [] G r := by
  refine wk_aload_n 3 dJ26_rotateLeft_58 rfl rfl ?_
  refine wk_e e1 ?_
  refine wk_getR 25 5 flJ26_39 rfl hk2 dJ26_rotateLeft_59 ?_
  refine wk_aload_n 1 dJ26_rotateLeft_62 rfl rfl ?_
  exact wk_acmp_ne 74 dJ26_rotateLeft_63 (by decide) (fun h => (kt h)) (fun h => (kf h))
theorem blJ26_rotateLeft_66 {w : WD} {j : JB} {r : Nat} {G : GH} {a0 : Option Nat} {a1 : Option Nat} {a2 : Option Nat} {a3 : Option Nat} {o1 : Nat}
    (e1 : a3 = some o1)
    (hk2 : hp_kd G o1 = 25)
    (hA3 : hp_A w o1)
    (k : wk_V w mJ26_rotateLeft j 79 [(0, vR a0), (1, vR a1), (2, vR a2)] [] (hp_sR G o1 5 a2) r)
    : wk_V w mJ26_rotateLeft j 66 [(0, vR a0), (1, vR a1), (2, vR a2), (3, vR a3)] [] G r := by
  refine wk_aload_n 3 dJ26_rotateLeft_66 rfl rfl ?_
  refine wk_aload_n 2 dJ26_rotateLeft_67 rfl rfl ?_
  refine wk_e2 e1 ?_
  refine wk_putR 25 5 flJ26_39 rfl (Or.inl rfl) hk2 hA3 dJ26_rotateLeft_68 ?_
  exact wk_goto 79 dJ26_rotateLeft_71 (by decide) (wk_sub [(0, vR a0), (1, vR a1), (2, vR a2)] ⟨rfl, rfl, rfl, trivial⟩ k)
theorem blJ26_rotateLeft_74 {w : WD} {j : JB} {r : Nat} {G : GH} {a0 : Option Nat} {a1 : Option Nat} {a2 : Option Nat} {a3 : Option Nat} {o1 : Nat}
    (e1 : a3 = some o1)
    (hk2 : hp_kd G o1 = 25)
    (hA3 : hp_A w o1)
    (k : wk_V w mJ26_rotateLeft j 79 [(0, vR a0), (1, vR a1), (2, vR a2)] [] (hp_sR G o1 6 a2) r)
    : wk_V w mJ26_rotateLeft j 74 [(0, vR a0), (1, vR a1), (2, vR a2), (3, vR a3)] [] G r := by
  refine wk_aload_n 3 dJ26_rotateLeft_74 rfl rfl ?_
  refine wk_aload_n 2 dJ26_rotateLeft_75 rfl rfl ?_
  refine wk_e2 e1 ?_
  refine wk_putR 25 6 flJ26_42 rfl (Or.inl rfl) hk2 hA3 dJ26_rotateLeft_76 ?_
  exact (wk_sub [(0, vR a0), (1, vR a1), (2, vR a2)] ⟨rfl, rfl, rfl, trivial⟩ k)
theorem blJ26_rotateLeft_79 {w : WD} {j : JB} {r : Nat} {G : GH} {a0 : Option Nat} {a1 : Option Nat} {a2 : Option Nat} {o1 : Nat} {o4 : Nat}
    (e1 : a2 = some o1)
    (hk2 : hp_kd G o1 = 25)
    (hA3 : hp_A w o1)
    (e4 : a1 = some o4)
    (hk5 : hp_kd G o4 = 25)
    (hA6 : hp_A w o4)
    (k : wk_V w mJ26_rotateLeft j 89 [(0, vR a0)] [] (hp_sR (hp_sR G o1 5 a1) o4 4 a2) r)
    : wk_V w mJ26_rotateLeft j 79 [(0, vR a0), (1, vR a1), (2, vR a2)] [] G r := by
  refine wk_aload_n 2 dJ26_rotateLeft_79 rfl rfl ?_
  refine wk_aload_n 1 dJ26_rotateLeft_80 rfl rfl ?_
  refine wk_e2 e1 ?_
  refine wk_putR 25 5 flJ26_39 rfl (Or.inl rfl) hk2 hA3 dJ26_rotateLeft_81 ?_
  refine wk_aload_n 1 dJ26_rotateLeft_84 rfl rfl ?_
  refine wk_aload_n 2 dJ26_rotateLeft_85 rfl rfl ?_
  refine wk_e2 e4 ?_
  refine wk_putR 25 4 flJ26_9 rfl (Or.inl rfl) hk5 hA6 dJ26_rotateLeft_86 ?_
  exact (wk_sub [(0, vR a0)] ⟨rfl, trivial⟩ k)
theorem blJ26_rotateLeft_89 {w : WD} {j : JB} {r : Nat} {G : GH} {a0 : Option Nat}
    (hP : j.2.2.1 (some (vR a0)) G)
    : wk_V w mJ26_rotateLeft j 89 [(0, vR a0)] [] G r := by
  refine wk_aload_n 0 dJ26_rotateLeft_89 rfl rfl ?_
  exact wk_areturn rfl (Or.inl ⟨_, rfl⟩) dJ26_rotateLeft_90 hP
/-! java/util/HashMap$TreeNode.rotateRight(Ljava/util/HashMap$TreeNode;Ljava/util/HashMap$TreeNode;)Ljava/util/HashMap$TreeNode; -/
theorem blJ26_rotateRight_0 {w : WD} {j : JB} {r : Nat} {G : GH} {a0 : Option Nat} {a1 : Option Nat}
    (kt : a1 = none → wk_V w mJ26_rotateRight j 89 [(0, vR a0)] [] G r)
    (kf : ∀ o9, a1 = some o9 → wk_V w mJ26_rotateRight j 4 [(0, vR a0), (1, vR a1)] [] G r)
    : wk_V w mJ26_rotateRight j 0 [(0, vR a0), (1, vR a1)] [] G r := by
  refine wk_aload_n 1 dJ26_rotateRight_0 rfl rfl ?_
  exact wk_ifnull 89 dJ26_rotateRight_1 (by decide) (fun h => (wk_sub [(0, vR a0)] ⟨rfl, trivial⟩ (kt h))) (fun o9 h => (kf o9 h))
theorem blJ26_rotateRight_4 {w : WD} {j : JB} {r : Nat} {G : GH} {a0 : Option Nat} {a1 : Option Nat} {o1 : Nat}
    (e1 : a1 = some o1)
    (hk2 : hp_kd G o1 = 25)
    (kt : (hp_r G o1 5) = none → wk_V w mJ26_rotateRight j 89 [(0, vR a0)] [] G r)
    (kf : ∀ o9, (hp_r G o1 5) = some o9 → wk_V w mJ26_rotateRight j 13 [(0, vR a0), (1, vR a1), (2, vR (hp_r G o1 5))] [] G r)
    : wk_V w mJ26_rotateRight j 4 [(0, vR a0), (1, vR a1)] [] G r := by
  refine wk_aload_n 1 dJ26_rotateRight_4 rfl rfl ?_
  refine wk_e e1 ?_
  refine wk_getR 25 5 flJ26_39 rfl hk2 dJ26_rotateRight_5 ?_
  refine wk_dup dJ26_rotateRight_8 rfl ?_
  refine wk_astore_n 2 dJ26_rotateRight_9 rfl (Nat.le_of_ble_eq_true rfl) ?_
  exact wk_ifnull 89 dJ26_rotateRight_10 (by decide) (fun h => (wk_sub [(0, vR a0)] ⟨rfl, trivial⟩ (kt h))) (fun o9 h => (kf o9 h))
theorem blJ26_rotateRight_13 {w : WD} {j : JB} {r : Nat} {G : GH} {a0 : Option Nat} {a1 : Option Nat} {a2 : Option Nat} {o1 : Nat} {o3 : Nat}
    (e1 : a2 = some o1)
    (hk2 : hp_kd G o1 = 25)
    (e3 : a1 = some o3)
    (hk4 : hp_kd G o3 = 25)
    (hA5 : hp_A w o3)
    (kt : (hp_r G o1 6) = none → wk_V w mJ26_rotateRight j 34 [(0, vR a0), (1, vR a1), (2, vR a2)] [] (hp_sR G o3 5 (hp_r G o1 6)) r)
    (kf : ∀ o9, (hp_r G o1 6) = some o9 → wk_V w mJ26_rotateRight j 28 [(0, vR a0), (1, vR a1), (2, vR a2), (4, vR (hp_r G o1 6))] [] (hp_sR G o3 5 (hp_r G o1 6)) r)
    : wk_V w mJ26_rotateRight j 13 [(0, vR a0), (1, vR a1), (2, vR a2)] [] G r := by
  refine wk_aload_n 1 dJ26_rotateRight_13 rfl rfl ?_
  refine wk_aload_n 2 dJ26_rotateRight_14 rfl rfl ?_
  refine wk_e e1 ?_
  refine wk_getR 25 6 flJ26_42 rfl hk2 dJ26_rotateRight_15 ?_
  refine wk_dup_x1 dJ26_rotateRight_18 rfl rfl ?_
  refine wk_e2 e3 ?_
  refine wk_putR 25 5 flJ26_39 rfl (Or.inl rfl) hk4 hA5 dJ26_rotateRight_19 ?_
  refine wk_dup dJ26_rotateRight_22 rfl ?_
  refine wk_astore dJ26_rotateRight_23 (Nat.le_of_ble_eq_true rfl) ?_
  exact wk_ifnull 34 dJ26_rotateRight_25 (by decide) (fun h => (wk_sub [(0, vR a0), (1, vR a1), (2, vR a2)] ⟨rfl, rfl, rfl, trivial⟩ (kt h))) (fun o9 h => (kf o9 h))
theorem blJ26_rotateRight_28 {w : WD} {j : JB} {r : Nat} {G : GH} {a0 : Option Nat} {a1 : Option Nat} {a2 : Option Nat} {a4 : Option Nat} {o1 : Nat}
    (e1 : a4 = some o1)
    (hk2 : hp_kd G o1 = 25)
    (hA3 : hp_A w o1)
    (k : wk_V w mJ26_rotateRight j 34 [(0, vR a0), (1, vR a1), (2, vR a2)] [] (hp_sR G o1 4 a1) r)
    : wk_V w mJ26_rotateRight j 28 [(0, vR a0), (1, vR a1), (2, vR a2), (4, vR a4)] [] G r := by
  refine wk_aload dJ26_rotateRight_28 rfl ?_
  refine wk_aload_n 1 dJ26_rotateRight_30 rfl rfl ?_
  refine wk_e2 e1 ?_
  refine wk_putR 25 4 flJ26_9 rfl (Or.inl rfl) hk2 hA3 dJ26_rotateRight_31 ?_
  exact (wk_sub [(0, vR a0), (1, vR a1), (2, vR a2)] ⟨rfl, rfl, rfl, trivial⟩ k)
theorem blJ26_rotateRight_34 {w : WD} {j : JB} {r : Nat} {G : GH} {a0 : Option Nat} {a1 : Option Nat} {a2 : Option Nat} {o1 : Nat} {o3 : Nat}
    (e1 : a1 = some o1)
    (hk2 : hp_kd G o1 = 25)
    (e3 : a2 = some o3)
    (hk4 : hp_kd G o3 = 25)
    (hA5 : hp_A w o3)
    (kt : ∀ o9, (hp_r G o1 4) = some o9 → wk_V w mJ26_rotateRight j 58 [(0, vR a0), (1, vR a1), (2, vR a2), (3, vR (hp_r G o1 4))] [] (hp_sR G o3 4 (hp_r G o1 4)) r)
    (kf : (hp_r G o1 4) = none → wk_V w mJ26_rotateRight j 48 [(1, vR a1), (2, vR a2)] [] (hp_sR G o3 4 (hp_r G o1 4)) r)
    : wk_V w mJ26_rotateRight j 34 [(0, vR a0), (1, vR a1), (2, vR a2)] [] G r := by
  refine wk_aload_n 2 dJ26_rotateRight_34 rfl rfl ?_
  refine wk_aload_n 1 dJ26_rotateRight_35 rfl rfl ?_
  refine wk_e e1 ?_
  refine wk_getR 25 4 flJ26_9 rfl hk2 dJ26_rotateRight_36 ?_
  refine wk_dup_x1 dJ26_rotateRight_39 rfl rfl ?_
  refine wk_e2 e3 ?_
  refine wk_putR 25 4 flJ26_9 rfl (Or.inl rfl) hk4 hA5 dJ26_rotateRight_40 ?_
  refine wk_dup dJ26_rotateRight_43 rfl ?_
  refine wk_astore_n 3 dJ26_rotateRight_44 rfl (Nat.le_of_ble_eq_true rfl) ?_
  exact wk_ifnonnull 58 dJ26_rotateRight_45 (by decide) (fun o9 h => (kt o9 h)) (fun h => (wk_sub [(1, vR a1), (2, vR a2)] ⟨rfl, rfl, trivial⟩ (kf h)))
theorem blJ26_rotateRight_48 {w : WD} {j : JB} {r : Nat} {G : GH} {a1 : Option Nat} {a2 : Option Nat} {o1 : Nat}
    (e1 : a2 = some o1)
    (hk2 : hp_kd G o1 = 25)
    (hA3 : hp_A w o1)
    (k : wk_V w mJ26_rotateRight j 79 [(0, vR a2), (1, vR a1), (2, vR a2)] [] (hp_sI G o1 8 (0 : Int32)) r)
    : wk_V w mJ26_rotateRight j 48 [(1, vR a1), (2, vR a2)] [] G r := by
  refine wk_aload_n 2 dJ26_rotateRight_48 rfl rfl ?_
  refine wk_dup dJ26_rotateRight_49 rfl ?_
  refine wk_astore_n 0 dJ26_rotateRight_50 rfl (Nat.le_of_ble_eq_true rfl) ?_
  refine wk_iconst (0 : Int32) dJ26_rotateRight_51 (by decide) ?_
  refine wk_e2 e1 ?_
  refine wk_putI 25 8 flJ26_93 rfl (Or.inl rfl) hk2 hA3 ⟨rfl, rfl⟩ dJ26_rotateRight_52 ?_
  exact wk_goto 79 dJ26_rotateRight_55 (by decide) k
theorem blJ26_rotateRight_58 {w : WD} {j : JB} {r : Nat} {G : GH} {a0 : Option Nat} {a1 : Option Nat} {a2 : Option Nat} {a3 : Option Nat} {o1 : Nat}
    (e1 : a3 = some o1)
    (hk2 : hp_kd G o1 = 25)
    (kt : ¬ ((hp_r G o1 6) = a1) → wk_V w mJ26_rotateRight j 74 [(0, vR a0), (1, vR a1), (2, vR a2), (3, vR a3)] [] G r)
    (kf : (hp_r G o1 6) = a1 → wk_V w mJ26_rotateRight j 66 [(0, vR a0), (1, vR a1), (2, vR a2), (3, vR a3)] [] G r)
    : wk_V w mJ26_rotateRight j 58 [(0, vR a0), (1, vR a1), (2, vR a2), (3, vR a3)] [] G r := by
  refine wk_aload_n 3 dJ26_rotateRight_58 rfl rfl ?_
  refine wk_e e1 ?_
  refine wk_getR 25 6 flJ26_42 rfl hk2 dJ26_rotateRight_59 ?_
  refine wk_aload_n 1 dJ26_rotateRight_62 rfl rfl ?_
  exact wk_acmp_ne 74 dJ26_rotateRight_63 (by decide) (fun h => (kt h)) (fun h => (kf h))
theorem blJ26_rotateRight_66 {w : WD} {j : JB} {r : Nat} {G : GH} {a0 : Option Nat} {a1 : Option Nat} {a2 : Option Nat} {a3 : Option Nat} {o1 : Nat}
    (e1 : a3 = some o1)
    (hk2 : hp_kd G o1 = 25)
    (hA3 : hp_A w o1)
    (k : wk_V w mJ26_rotateRight j 79 [(0, vR a0), (1, vR a1), (2, vR a2)] [] (hp_sR G o1 6 a2) r)
    : wk_V w mJ26_rotateRight j 66 [(0, vR a0), (1, vR a1), (2, vR a2), (3, vR a3)] [] G r := by
  refine wk_aload_n 3 dJ26_rotateRight_66 rfl rfl ?_
  refine wk_aload_n 2 dJ26_rotateRight_67 rfl rfl ?_
  refine wk_e2 e1 ?_
  refine wk_putR 25 6 flJ26_42 rfl (Or.inl rfl) hk2 hA3 dJ26_rotateRight_68 ?_
  exact wk_goto 79 dJ26_rotateRight_71 (by decide) (wk_sub [(0, vR a0), (1, vR a1), (2, vR a2)] ⟨rfl, rfl, rfl, trivial⟩ k)
theorem blJ26_rotateRight_74 {w : WD} {j : JB} {r : Nat} {G : GH} {a0 : Option Nat} {a1 : Option Nat} {a2 : Option Nat} {a3 : Option Nat} {o1 : Nat}
    (e1 : a3 = some o1)
    (hk2 : hp_kd G o1 = 25)
    (hA3 : hp_A w o1)
    (k : wk_V w mJ26_rotateRight j 79 [(0, vR a0), (1, vR a1), (2, vR a2)] [] (hp_sR G o1 5 a2) r)
    : wk_V w mJ26_rotateRight j 74 [(0, vR a0), (1, vR a1), (2, vR a2), (3, vR a3)] [] G r := by
  refine wk_aload_n 3 dJ26_rotateRight_74 rfl rfl ?_
  refine wk_aload_n 2 dJ26_rotateRight_75 rfl rfl ?_
  refine wk_e2 e1 ?_
  refine wk_putR 25 5 flJ26_39 rfl (Or.inl rfl) hk2 hA3 dJ26_rotateRight_76 ?_
  exact (wk_sub [(0, vR a0), (1, vR a1), (2, vR a2)] ⟨rfl, rfl, rfl, trivial⟩ k)
theorem blJ26_rotateRight_79 {w : WD} {j : JB} {r : Nat} {G : GH} {a0 : Option Nat} {a1 : Option Nat} {a2 : Option Nat} {o1 : Nat} {o4 : Nat}
    (e1 : a2 = some o1)
    (hk2 : hp_kd G o1 = 25)
    (hA3 : hp_A w o1)
    (e4 : a1 = some o4)
    (hk5 : hp_kd G o4 = 25)
    (hA6 : hp_A w o4)
    (k : wk_V w mJ26_rotateRight j 89 [(0, vR a0)] [] (hp_sR (hp_sR G o1 6 a1) o4 4 a2) r)
    : wk_V w mJ26_rotateRight j 79 [(0, vR a0), (1, vR a1), (2, vR a2)] [] G r := by
  refine wk_aload_n 2 dJ26_rotateRight_79 rfl rfl ?_
  refine wk_aload_n 1 dJ26_rotateRight_80 rfl rfl ?_
  refine wk_e2 e1 ?_
  refine wk_putR 25 6 flJ26_42 rfl (Or.inl rfl) hk2 hA3 dJ26_rotateRight_81 ?_
  refine wk_aload_n 1 dJ26_rotateRight_84 rfl rfl ?_
  refine wk_aload_n 2 dJ26_rotateRight_85 rfl rfl ?_
  refine wk_e2 e4 ?_
  refine wk_putR 25 4 flJ26_9 rfl (Or.inl rfl) hk5 hA6 dJ26_rotateRight_86 ?_
  exact (wk_sub [(0, vR a0)] ⟨rfl, trivial⟩ k)
theorem blJ26_rotateRight_89 {w : WD} {j : JB} {r : Nat} {G : GH} {a0 : Option Nat}
    (hP : j.2.2.1 (some (vR a0)) G)
    : wk_V w mJ26_rotateRight j 89 [(0, vR a0)] [] G r := by
  refine wk_aload_n 0 dJ26_rotateRight_89 rfl rfl ?_
  exact wk_areturn rfl (Or.inl ⟨_, rfl⟩) dJ26_rotateRight_90 hP
/-! java/util/HashMap$TreeNode.split(Ljava/util/HashMap;[Ljava/util/HashMap$Node;II)V -/
theorem blJ26_split_0 {w : WD} {j : JB} {r : Nat} {G : GH} {a0 : Nat} {a1 : Option Nat} {a2 : Option Nat} {x3 : Int32} {x4 : Int32}
    (k : wk_V w mJ26_split j 12 [(1, vR a1), (2, vR a2), (3, vI x3), (4, vI x4), (5, vR (some a0)), (6, vR none), (7, vR none), (8, vR none)] [] G r)
    : wk_V w mJ26_split j 0 [(0, vR (some a0)), (1, vR a1), (2, vR a2), (3, vI x3), (4, vI x4)] [] G r := by
  refine wk_aload_n 0 dJ26_split_0 rfl rfl ?_
  refine wk_astore dJ26_split_1 (Nat.le_of_ble_eq_true rfl) ?_
  refine wk_null dJ26_split_3 ?_
  refine wk_astore dJ26_split_4 (Nat.le_of_ble_eq_true rfl) ?_
  refine wk_null dJ26_split_6 ?_
  refine wk_astore dJ26_split_7 (Nat.le_of_ble_eq_true rfl) ?_
  refine wk_null dJ26_split_9 ?_
  refine wk_astore dJ26_split_10 (Nat.le_of_ble_eq_true rfl) ?_
  exact (wk_sub [(1, vR a1), (2, vR a2), (3, vI x3), (4, vI x4), (5, vR (some a0)), (6, vR none), (7, vR none), (8, vR none)] ⟨rfl, rfl, rfl, rfl, rfl, rfl, rfl, rfl, trivial⟩ k)
theorem blJ26_split_12 {w : WD} {j : JB} {r : Nat} {G : GH} {a1 : Option Nat} {a2 : Option Nat} {x3 : Int32} {x4 : Int32} {a5 : Option Nat} {a6 : Option Nat} {a7 : Option Nat} {a8 : Option Nat}
    (k : wk_V w mJ26_split j 25 [(1, vR a1), (2, vR a2), (3, vI x3), (4, vI x4), (6, vR a6), (7, vR a7), (8, vR a8), (9, vR none), (10, vI (0 : Int32)), (11, vI (0 : Int32)), (12, vR a5)] [] G r)
    : wk_V w mJ26_split j 12 [(1, vR a1), (2, vR a2), (3, vI x3), (4, vI x4), (5, vR a5), (6, vR a6), (7, vR a7), (8, vR a8)] [] G r := by
  refine wk_null dJ26_split_12 ?_
  refine wk_astore dJ26_split_13 (Nat.le_of_ble_eq_true rfl) ?_
  refine wk_iconst (0 : Int32) dJ26_split_15 (by decide) ?_
  refine wk_istore dJ26_split_16 (Nat.le_of_ble_eq_true rfl) ?_
  refine wk_iconst (0 : Int32) dJ26_split_18 (by decide) ?_
  refine wk_istore dJ26_split_19 (Nat.le_of_ble_eq_true rfl) ?_
  refine wk_aload dJ26_split_21 rfl ?_
  refine wk_astore dJ26_split_23 (Nat.le_of_ble_eq_true rfl) ?_
  exact (wk_sub [(1, vR a1), (2, vR a2), (3, vI x3), (4, vI x4), (6, vR a6), (7, vR a7), (8, vR a8), (9, vR none), (10, vI (0 : Int32)), (11, vI (0 : Int32)), (12, vR a5)] ⟨rfl, rfl, rfl, rfl, rfl, rfl, rfl, rfl, rfl, rfl, rfl, trivial⟩ k)
theorem blJ26_split_25 {w : WD} {j : JB} {r : Nat} {G : GH} {a1 : Option Nat} {a2 : Option Nat} {x3 : Int32} {x4 : Int32} {a6 : Option Nat} {a7 : Option Nat} {a8 : Option Nat} {a9 : Option Nat} {x10 : Int32} {x11 : Int32} {a12 : Option Nat}
    (kt : a12 = none → wk_V w mJ26_split j 131 [(1, vR a1), (2, vR a2), (3, vI x3), (4, vI x4), (6, vR a6), (8, vR a8), (10, vI x10), (11, vI x11)] [] G r)
    (kf : ∀ o9, a12 = some o9 → wk_V w mJ26_split j 30 [(1, vR a1), (2, vR a2), (3, vI x3), (4, vI x4), (6, vR a6), (7, vR a7), (8, vR a8), (9, vR a9), (10, vI x10), (11, vI x11), (12, vR a12)] [] G r)
    : wk_V w mJ26_split j 25 [(1, vR a1), (2, vR a2), (3, vI x3), (4, vI x4), (6, vR a6), (7, vR a7), (8, vR a8), (9, vR a9), (10, vI x10), (11, vI x11), (12, vR a12)] [] G r := by
  refine wk_aload dJ26_split_25 rfl ?_
  exact wk_ifnull 131 dJ26_split_27 (by decide) (fun h => (wk_sub [(1, vR a1), (2, vR a2), (3, vI x3), (4, vI x4), (6, vR a6), (8, vR a8), (10, vI x10), (11, vI x11)] ⟨rfl, rfl, rfl, rfl, rfl, rfl, rfl, rfl, trivial⟩ (kt h))) (fun o9 h => (kf o9 h))
theorem blJ26_split_30 {w : WD} {j : JB} {r : Nat} {G : GH} {a1 : Option Nat} {a2 : Option Nat} {x3 : Int32} {x4 : Int32} {a6 : Option Nat} {a7 : Option Nat} {a8 : Option Nat} {a9 : Option Nat} {x10 : Int32} {x11 : Int32} {a12 : Option Nat} {o1 : Nat}
    (e1 : a12 = some o1)
    (hk2 : hp_kd G o1 = 25)
    (hc3 : ∀ a, (hp_r G o1 3) = some a → hp_kd G a ≠ 0 ∧ hp_kd G a < 28 ∧ hp_sub (hp_kd G a) "java/util/HashMap$TreeNode")
    (hA5 : hp_A w o1)
    (kt : ¬ (((hp_i G o1 0) &&& x4) = 0) → wk_V w mJ26_split j 92 [(1, vR a1), (2, vR a2), (3, vI x3), (4, vI x4), (6, vR a6), (7, vR a7), (8, vR a8), (9, vR a9), (10, vI x10), (11, vI x11), (12, vR a12), (13, vR (hp_r G o1 3))] [] (hp_sR G o1 3 none) r)
    (kf : ((hp_i G o1 0) &&& x4) = 0 → wk_V w mJ26_split j 57 [(1, vR a1), (2, vR a2), (3, vI x3), (4, vI x4), (6, vR a6), (7, vR a7), (8, vR a8), (9, vR a9), (10, vI x10), (11, vI x11), (12, vR a12), (13, vR (hp_r G o1 3))] [] (hp_sR G o1 3 none) r)
    : wk_V w mJ26_split j 30 [(1, vR a1), (2, vR a2), (3, vI x3), (4, vI x4), (6, vR a6), (7, vR a7), (8, vR a8), (9, vR a9), (10, vI x10), (11, vI x11), (12, vR a12)] [] G r := by
  refine wk_aload dJ26_split_30 rfl ?_
  refine wk_e e1 ?_
  refine wk_getR 25 3 flJ26_22 rfl hk2 dJ26_split_32 ?_
  refine wk_castQ q1582 hc3 dJ26_split_35 ?_
  refine wk_astore dJ26_split_38 (Nat.le_of_ble_eq_true rfl) ?_
  refine wk_aload dJ26_split_40 rfl ?_
  refine wk_null dJ26_split_42 ?_
  refine wk_e2 e1 ?_
  refine wk_putR 25 3 flJ26_22 rfl (Or.inl rfl) hk2 hA5 dJ26_split_43 ?_
  refine wk_aload dJ26_split_46 rfl ?_
  refine wk_e e1 ?_
  refine wk_getI 25 0 flJ26_15 rfl hk2 dJ26_split_48 ?_
  refine wk_iload dJ26_split_51 rfl ?_
  refine wk_iand dJ26_split_53 ?_
  exact wk_if_ne 92 dJ26_split_54 (by decide) (fun h => (kt h)) (fun h => (kf h))
theorem blJ26_split_57 {w : WD} {j : JB} {r : Nat} {G : GH} {a1 : Option Nat} {a2 : Option Nat} {x3 : Int32} {x4 : Int32} {a6 : Option Nat} {a7 : Option Nat} {a8 : Option Nat} {a9 : Option Nat} {x10 : Int32} {x11 : Int32} {a12 : Option Nat} {a13 : Option Nat} {o1 : Nat}
    (e1 : a12 = some o1)
    (hk2 : hp_kd G o1 = 25)
    (hA3 : hp_A w o1)
    (kt : ∀ o9, a7 = some o9 → wk_V w mJ26_split j 75 [(1, vR a1), (2, vR a2), (3, vI x3), (4, vI x4), (6, vR a6), (7, vR a7), (8, vR a8), (9, vR a9), (10, vI x10), (11, vI x11), (12, vR a12), (13, vR a13)] [] (hp_sR G o1 7 a7) r)
    (kf : a7 = none → wk_V w mJ26_split j 68 [(1, vR a1), (2, vR a2), (3, vI x3), (4, vI x4), (8, vR a8), (9, vR a9), (10, vI x10), (11, vI x11), (12, vR a12), (13, vR a13)] [] (hp_sR G o1 7 a7) r)
    : wk_V w mJ26_split j 57 [(1, vR a1), (2, vR a2), (3, vI x3), (4, vI x4), (6, vR a6), (7, vR a7), (8, vR a8), (9, vR a9), (10, vI x10), (11, vI x11), (12, vR a12), (13, vR a13)] [] G r := by
  refine wk_aload dJ26_split_57 rfl ?_
  refine wk_aload dJ26_split_59 rfl ?_
  refine wk_dup_x1 dJ26_split_61 rfl rfl ?_
  refine wk_e2 e1 ?_
  refine wk_putR 25 7 flJ26_19 rfl (Or.inl rfl) hk2 hA3 dJ26_split_62 ?_
  exact wk_ifnonnull 75 dJ26_split_65 (by decide) (fun o9 h => (kt o9 h)) (fun h => (wk_sub [(1, vR a1), (2, vR a2), (3, vI x3), (4, vI x4), (8, vR a8), (9, vR a9), (10, vI x10), (11, vI x11), (12, vR a12), (13, vR a13)] ⟨rfl, rfl, rfl, rfl, rfl, rfl, rfl, rfl, rfl, rfl, trivial⟩ (kf h)))
theorem blJ26_split_68 {w : WD} {j : JB} {r : Nat} {G : GH} {a1 : Option Nat} {a2 : Option Nat} {x3 : Int32} {x4 : Int32} {a8 : Option Nat} {a9 : Option Nat} {x10 : Int32} {x11 : Int32} {a12 : Option Nat} {a13 : Option Nat}
    (k : wk_V w mJ26_split j 82 [(1, vR a1), (2, vR a2), (3, vI x3), (4, vI x4), (6, vR a12), (8, vR a8), (9, vR a9), (10, vI x10), (11, vI x11), (12, vR a12), (13, vR a13)] [] G r)
    : wk_V w mJ26_split j 68 [(1, vR a1), (2, vR a2), (3, vI x3), (4, vI x4), (8, vR a8), (9, vR a9), (10, vI x10), (11, vI x11), (12, vR a12), (13, vR a13)] [] G r := by
  refine wk_aload dJ26_split_68 rfl ?_
  refine wk_astore dJ26_split_70 (Nat.le_of_ble_eq_true rfl) ?_
  exact wk_goto 82 dJ26_split_72 (by decide) k
theorem blJ26_split_75 {w : WD} {j : JB} {r : Nat} {G : GH} {a1 : Option Nat} {a2 : Option Nat} {x3 : Int32} {x4 : Int32} {a6 : Option Nat} {a7 : Option Nat} {a8 : Option Nat} {a9 : Option Nat} {x10 : Int32} {x11 : Int32} {a12 : Option Nat} {a13 : Option Nat} {o1 : Nat}
    (e1 : a7 = some o1)
    (hk2 : hp_kd G o1 = 25)
    (hA3 : hp_A w o1)
    (k : wk_V w mJ26_split j 82 [(1, vR a1), (2, vR a2), (3, vI x3), (4, vI x4), (6, vR a6), (8, vR a8), (9, vR a9), (10, vI x10), (11, vI x11), (12, vR a12), (13, vR a13)] [] (hp_sR G o1 3 a12) r)
    : wk_V w mJ26_split j 75 [(1, vR a1), (2, vR a2), (3, vI x3), (4, vI x4), (6, vR a6), (7, vR a7), (8, vR a8), (9, vR a9), (10, vI x10), (11, vI x11), (12, vR a12), (13, vR a13)] [] G r := by
  refine wk_aload dJ26_split_75 rfl ?_
  refine wk_aload dJ26_split_77 rfl ?_
  refine wk_e2 e1 ?_
  refine wk_putR 25 3 flJ26_22 rfl (Or.inl rfl) hk2 hA3 dJ26_split_79 ?_
  exact (wk_sub [(1, vR a1), (2, vR a2), (3, vI x3), (4, vI x4), (6, vR a6), (8, vR a8), (9, vR a9), (10, vI x10), (11, vI x11), (12, vR a12), (13, vR a13)] ⟨rfl, rfl, rfl, rfl, rfl, rfl, rfl, rfl, rfl, rfl, rfl, trivial⟩ k)
theorem blJ26_split_82 {w : WD} {j : JB} {r : Nat} {G : GH} {a1 : Option Nat} {a2 : Option Nat} {x3 : Int32} {x4 : Int32} {a6 : Option Nat} {a8 : Option Nat} {a9 : Option Nat} {x10 : Int32} {x11 : Int32} {a12 : Option Nat} {a13 : Option Nat}
    (k : wk_V w mJ26_split j 124 [(1, vR a1), (2, vR a2), (3, vI x3), (4, vI x4), (6, vR a6), (7, vR a12), (8, vR a8), (9, vR a9), (10, vI (x10 + (1 : Int32))), (11, vI x11), (13, vR a13)] [] G r)
    : wk_V w mJ26_split j 82 [(1, vR a1), (2, vR a2), (3, vI x3), (4, vI x4), (6, vR a6), (8, vR a8), (9, vR a9), (10, vI x10), (11, vI x11), (12, vR a12), (13, vR a13)] [] G r := by
  refine wk_aload dJ26_split_82 rfl ?_
  refine wk_astore dJ26_split_84 (Nat.le_of_ble_eq_true rfl) ?_
  refine wk_iincC (1 : Int32) dJ26_split_86 rfl (by decide) (Nat.le_of_ble_eq_true rfl) ?_
  exact wk_goto 124 dJ26_split_89 (by decide) (wk_sub [(1, vR a1), (2, vR a2), (3, vI x3), (4, vI x4), (6, vR a6), (7, vR a12), (8, vR a8), (9, vR a9), (10, vI (x10 + (1 : Int32))), (11, vI x11), (13, vR a13)] ⟨rfl, rfl, rfl, rfl, rfl, rfl, rfl, rfl, rfl, rfl, rfl, trivial⟩ k)
theorem blJ26_split_92 {w : WD} {j : JB} {r : Nat} {G : GH} {a1 : Option Nat} {a2 : Option Nat} {x3 : Int32} {x4 : Int32} {a6 : Option Nat} {a7 : Option Nat} {a8 : Option Nat} {a9 : Option Nat} {x10 : Int32} {x11 : Int32} {a12 : Option Nat} {a13 : Option Nat} {o1 : Nat}
    (e1 : a12 = some o1)
    (hk2 : hp_kd G o1 = 25)
    (hA3 : hp_A w o1)
    (kt : ∀ o9, a9 = some o9 → wk_V w mJ26_split j 110 [(1, vR a1), (2, vR a2), (3, vI x3), (4, vI x4), (6, vR a6), (7, vR a7), (8, vR a8), (9, vR a9), (10, vI x10), (11, vI x11), (12, vR a12), (13, vR a13)] [] (hp_sR G o1 7 a9) r)
    (kf : a9 = none → wk_V w mJ26_split j 103 [(1, vR a1), (2, vR a2), (3, vI x3), (4, vI x4), (6, vR a6), (7, vR a7), (10, vI x10), (11, vI x11), (12, vR a12), (13, vR a13)] [] (hp_sR G o1 7 a9) r)
    : wk_V w mJ26_split j 92 [(1, vR a1), (2, vR a2), (3, vI x3), (4, vI x4), (6, vR a6), (7, vR a7), (8, vR a8), (9, vR a9), (10, vI x10), (11, vI x11), (12, vR a12), (13, vR a13)] [] G r := by
  refine wk_aload dJ26_split_92 rfl ?_
  refine wk_aload dJ26_split_94 rfl ?_
  refine wk_dup_x1 dJ26_split_96 rfl rfl ?_
  refine wk_e2 e1 ?_
  refine wk_putR 25 7 flJ26_19 rfl (Or.inl rfl) hk2 hA3 dJ26_split_97 ?_
  exact wk_ifnonnull 110 dJ26_split_100 (by decide) (fun o9 h => (kt o9 h)) (fun h => (wk_sub [(1, vR a1), (2, vR a2), (3, vI x3), (4, vI x4), (6, vR a6), (7, vR a7), (10, vI x10), (11, vI x11), (12, vR a12), (13, vR a13)] ⟨rfl, rfl, rfl, rfl, rfl, rfl, rfl, rfl, rfl, rfl, trivial⟩ (kf h)))
theorem blJ26_split_103 {w : WD} {j : JB} {r : Nat} {G : GH} {a1 : Option Nat} {a2 : Option Nat} {x3 : Int32} {x4 : Int32} {a6 : Option Nat} {a7 : Option Nat} {x10 : Int32} {x11 : Int32} {a12 : Option Nat} {a13 : Option Nat}
    (k : wk_V w mJ26_split j 117 [(1, vR a1), (2, vR a2), (3, vI x3), (4, vI x4), (6, vR a6), (7, vR a7), (8, vR a12), (10, vI x10), (11, vI x11), (12, vR a12), (13, vR a13)] [] G r)
    : wk_V w mJ26_split j 103 [(1, vR a1), (2, vR a2), (3, vI x3), (4, vI x4), (6, vR a6), (7, vR a7), (10, vI x10), (11, vI x11), (12, vR a12), (13, vR a13)] [] G r := by
  refine wk_aload dJ26_split_103 rfl ?_
  refine wk_astore dJ26_split_105 (Nat.le_of_ble_eq_true rfl) ?_
  exact wk_goto 117 dJ26_split_107 (by decide) k
theorem blJ26_split_110 {w : WD} {j : JB} {r : Nat} {G : GH} {a1 : Option Nat} {a2 : Option Nat} {x3 : Int32} {x4 : Int32} {a6 : Option Nat} {a7 : Option Nat} {a8 : Option Nat} {a9 : Option Nat} {x10 : Int32} {x11 : Int32} {a12 : Option Nat} {a13 : Option Nat} {o1 : Nat}
    (e1 : a9 = some o1)
    (hk2 : hp_kd G o1 = 25)
    (hA3 : hp_A w o1)
    (k : wk_V w mJ26_split j 117 [(1, vR a1), (2, vR a2), (3, vI x3), (4, vI x4), (6, vR a6), (7, vR a7), (8, vR a8), (10, vI x10), (11, vI x11), (12, vR a12), (13, vR a13)] [] (hp_sR G o1 3 a12) r)
    : wk_V w mJ26_split j 110 [(1, vR a1), (2, vR a2), (3, vI x3), (4, vI x4), (6, vR a6), (7, vR a7), (8, vR a8), (9, vR a9), (10, vI x10), (11, vI x11), (12, vR a12), (13, vR a13)] [] G r := by
  refine wk_aload dJ26_split_110 rfl ?_
  refine wk_aload dJ26_split_112 rfl ?_
  refine wk_e2 e1 ?_
  refine wk_putR 25 3 flJ26_22 rfl (Or.inl rfl) hk2 hA3 dJ26_split_114 ?_
  exact (wk_sub [(1, vR a1), (2, vR a2), (3, vI x3), (4, vI x4), (6, vR a6), (7, vR a7), (8, vR a8), (10, vI x10), (11, vI x11), (12, vR a12), (13, vR a13)] ⟨rfl, rfl, rfl, rfl, rfl, rfl, rfl, rfl, rfl, rfl, rfl, trivial⟩ k)
theorem blJ26_split_117 {w : WD} {j : JB} {r : Nat} {G : GH} {a1 : Option Nat} {a2 : Option Nat} {x3 : Int32} {x4 : Int32} {a6 : Option Nat} {a7 : Option Nat} {a8 : Option Nat} {x10 : Int32} {x11 : Int32} {a12 : Option Nat} {a13 : Option Nat}
    (k : wk_V w mJ26_split j 124 [(1, vR a1), (2, vR a2), (3, vI x3), (4, vI x4), (6, vR a6), (7, vR a7), (8, vR a8), (9, vR a12), (10, vI x10), (11, vI (x11 + (1 : Int32))), (13, vR a13)] [] G r)
    : wk_V w mJ26_split j 117 [(1, vR a1), (2, vR a2), (3, vI x3), (4, vI x4), (6, vR a6), (7, vR a7), (8, vR a8), (10, vI x10), (11, vI x11), (12, vR a12), (13, vR a13)] [] G r := by
  refine wk_aload dJ26_split_117 rfl ?_
  refine wk_astore dJ26_split_119 (Nat.le_of_ble_eq_true rfl) ?_
  refine wk_iincC (1 : Int32) dJ26_split_121 rfl (by decide) (Nat.le_of_ble_eq_true rfl) ?_
  exact (wk_sub [(1, vR a1), (2, vR a2), (3, vI x3), (4, vI x4), (6, vR a6), (7, vR a7), (8, vR a8), (9, vR a12), (10, vI x10), (11, vI (x11 + (1 : Int32))), (13, vR a13)] ⟨rfl, rfl, rfl, rfl, rfl, rfl, rfl, rfl, rfl, rfl, rfl, trivial⟩ k)
theorem blJ26_split_124 {w : WD} {j : JB} {r : Nat} {G : GH} {a1 : Option Nat} {a2 : Option Nat} {x3 : Int32} {x4 : Int32} {a6 : Option Nat} {a7 : Option Nat} {a8 : Option Nat} {a9 : Option Nat} {x10 : Int32} {x11 : Int32} {a13 : Option Nat}
    (k : wk_V w mJ26_split j 25 [(1, vR a1), (2, vR a2), (3, vI x3), (4, vI x4), (6, vR a6), (7, vR a7), (8, vR a8), (9, vR a9), (10, vI x10), (11, vI x11), (12, vR a13)] [] G r)
    : wk_V w mJ26_split j 124 [(1, vR a1), (2, vR a2), (3, vI x3), (4, vI x4), (6, vR a6), (7, vR a7), (8, vR a8), (9, vR a9), (10, vI x10), (11, vI x11), (13, vR a13)] [] G r := by
  refine wk_aload dJ26_split_124 rfl ?_
  refine wk_astore dJ26_split_126 (Nat.le_of_ble_eq_true rfl) ?_
  exact wk_goto 25 dJ26_split_128 (by decide) (wk_sub [(1, vR a1), (2, vR a2), (3, vI x3), (4, vI x4), (6, vR a6), (7, vR a7), (8, vR a8), (9, vR a9), (10, vI x10), (11, vI x11), (12, vR a13)] ⟨rfl, rfl, rfl, rfl, rfl, rfl, rfl, rfl, rfl, rfl, rfl, trivial⟩ k)
theorem blJ26_split_131 {w : WD} {j : JB} {r : Nat} {G : GH} {a1 : Option Nat} {a2 : Option Nat} {x3 : Int32} {x4 : Int32} {a6 : Option Nat} {a8 : Option Nat} {x10 : Int32} {x11 : Int32}
    (kt : a6 = none → wk_V w mJ26_split j 171 [(1, vR a1), (2, vR a2), (3, vI x3), (4, vI x4), (6, vR a6), (8, vR a8), (11, vI x11)] [] G r)
    (kf : ∀ o9, a6 = some o9 → wk_V w mJ26_split j 136 [(1, vR a1), (2, vR a2), (3, vI x3), (4, vI x4), (6, vR a6), (8, vR a8), (10, vI x10), (11, vI x11)] [] G r)
    : wk_V w mJ26_split j 131 [(1, vR a1), (2, vR a2), (3, vI x3), (4, vI x4), (6, vR a6), (8, vR a8), (10, vI x10), (11, vI x11)] [] G r := by
  refine wk_aload dJ26_split_131 rfl ?_
  exact wk_ifnull 171 dJ26_split_133 (by decide) (fun h => (wk_sub [(1, vR a1), (2, vR a2), (3, vI x3), (4, vI x4), (6, vR a6), (8, vR a8), (11, vI x11)] ⟨rfl, rfl, rfl, rfl, rfl, rfl, rfl, trivial⟩ (kt h))) (fun o9 h => (kf o9 h))
theorem blJ26_split_136 {w : WD} {j : JB} {r : Nat} {G : GH} {a1 : Option Nat} {a2 : Option Nat} {x3 : Int32} {x4 : Int32} {a6 : Option Nat} {a8 : Option Nat} {x10 : Int32} {x11 : Int32}
    (kt : (6 : Int32) < x10 → wk_V w mJ26_split j 155 [(1, vR a1), (2, vR a2), (3, vI x3), (4, vI x4), (6, vR a6), (8, vR a8), (11, vI x11)] [] G r)
    (kf : ¬ ((6 : Int32) < x10) → wk_V w mJ26_split j 143 [(1, vR a1), (2, vR a2), (3, vI x3), (4, vI x4), (6, vR a6), (8, vR a8), (11, vI x11)] [] G r)
    : wk_V w mJ26_split j 136 [(1, vR a1), (2, vR a2), (3, vI x3), (4, vI x4), (6, vR a6), (8, vR a8), (10, vI x10), (11, vI x11)] [] G r := by
  refine wk_iload dJ26_split_136 rfl ?_
  refine wk_bipush (6 : Int32) dJ26_split_138 (by decide) ?_
  exact wk_icmp_gt 155 dJ26_split_140 (by decide) (fun h => (wk_sub [(1, vR a1), (2, vR a2), (3, vI x3), (4, vI x4), (6, vR a6), (8, vR a8), (11, vI x11)] ⟨rfl, rfl, rfl, rfl, rfl, rfl, rfl, trivial⟩ (kt h))) (fun h => (wk_sub [(1, vR a1), (2, vR a2), (3, vI x3), (4, vI x4), (6, vR a6), (8, vR a8), (11, vI x11)] ⟨rfl, rfl, rfl, rfl, rfl, rfl, rfl, trivial⟩ (kf h)))
theorem blJ26_split_143 {w : WD} {j : JB} {r : Nat} {G : GH} {a1 : Option Nat} {a2 : Option Nat} {x3 : Int32} {x4 : Int32} {a6 : Option Nat} {a8 : Option Nat} {x11 : Int32} {o1 : Nat} {d' b' : Nat} {P : Option WV → GH → Prop} {PX : String → Nat → GH → Prop}
    (e1 : a6 = some o1)
    (hkr : hp_kd G o1 = 25)
    (hC : wk_C w mJ26_untreeify d' b' [vR (some o1), vR a1] G P PX)
    (hdp : d' + 1 ≤ j.1)
    (hb : b' ≤ r)
    (kr : ∀ v G', P v G' → wk_V w mJ26_split j 151 [(1, vR a1), (2, vR a2), (3, vI x3), (4, vI x4), (6, vR a6), (8, vR a8), (11, vI x11)] (v.toList ++ [vI x3, vR a2]) G' (r - b'))
    (kx : ∀ E q G', PX E q G' → wk_T w mJ26_split j 148 [(1, vR a1), (2, vR a2), (3, vI x3), (4, vI x4), (6, vR a6), (8, vR a8), (11, vI x11)] G' (r - b') E q)
    : wk_V w mJ26_split j 143 [(1, vR a1), (2, vR a2), (3, vI x3), (4, vI x4), (6, vR a6), (8, vR a8), (11, vI x11)] [] G r := by
  refine wk_aload_n 2 dJ26_split_143 rfl rfl ?_
  refine wk_iload_n 3 dJ26_split_144 rfl rfl ?_
  refine wk_aload dJ26_split_145 rfl ?_
  refine wk_aload_n 1 dJ26_split_147 rfl rfl ?_
  refine wk_eAt 1 e1 rfl ?_
  exact wk_callV hC rfl q1583 q1584 q1585 q149 q1586 mdJ26_untreeify (Nat.le_of_ble_eq_true rfl) ⟨by show hp_kd G o1 ≠ 0; rw [hkr]; decide, by show hp_kd G o1 < 28; rw [hkr]; decide, by show hp_C (hp_kd G o1) = _; rw [hkr]; rfl⟩ rfl rfl (Nat.le_of_ble_eq_true rfl) hdp hb dJ26_split_148 kr kx
theorem blJ26_split_151 {w : WD} {j : JB} {r : Nat} {G : GH} {a1 : Option Nat} {a2 : Option Nat} {x3 : Int32} {x4 : Int32} {a6 : Option Nat} {a8 : Option Nat} {x11 : Int32} {sa0 : Option Nat} {s1 : Int32} {sa2 : Option Nat} {o1 : Nat} {T5 : String}
    (e1 : sa0 = some o1)
    (hi2 : vp_in s1 (hp_ln G o1))
    (hA3 : hp_A w o1)
    (hk4 : 32 ≤ hp_kd G o1)
    (hT6 : hp_at (hp_kd G o1) = .object T5)
    (hx7 : ∀ b, sa2 = some b → hp_kd G b ≠ 0 ∧ hp_kd G b < 28 ∧ hp_sub (hp_kd G b) T5)
    (k : wk_V w mJ26_split j 171 [(1, vR a1), (2, vR a2), (3, vI x3), (4, vI x4), (6, vR a6), (8, vR a8), (11, vI x11)] [] (hp_sR G o1 s1.toNatClampNeg sa2) r)
    : wk_V w mJ26_split j 151 [(1, vR a1), (2, vR a2), (3, vI x3), (4, vI x4), (6, vR a6), (8, vR a8), (11, vI x11)] [vR sa2, vI s1, vR sa0] G r := by
  refine wk_e3 e1 ?_
  refine wk_aast hk4 hT6 hA3 hi2 hx7 dJ26_split_151 ?_
  exact wk_goto 171 dJ26_split_152 (by decide) k
theorem blJ26_split_155 {w : WD} {j : JB} {r : Nat} {G : GH} {a1 : Option Nat} {a2 : Option Nat} {x3 : Int32} {x4 : Int32} {a6 : Option Nat} {a8 : Option Nat} {x11 : Int32} {o1 : Nat} {T5 : String}
    (e1 : a2 = some o1)
    (hi2 : vp_in x3 (hp_ln G o1))
    (hA3 : hp_A w o1)
    (hk4 : 32 ≤ hp_kd G o1)
    (hT6 : hp_at (hp_kd G o1) = .object T5)
    (hx7 : ∀ b, a6 = some b → hp_kd G b ≠ 0 ∧ hp_kd G b < 28 ∧ hp_sub (hp_kd G b) T5)
    (kt : a8 = none → wk_V w mJ26_split j 171 [(1, vR a1), (2, vR a2), (3, vI x3), (4, vI x4), (6, vR a6), (8, vR a8), (11, vI x11)] [] (hp_sR G o1 x3.toNatClampNeg a6) r)
    (kf : ∀ o9, a8 = some o9 → wk_V w mJ26_split j 165 [(1, vR a1), (2, vR a2), (3, vI x3), (4, vI x4), (6, vR a6), (8, vR a8), (11, vI x11)] [] (hp_sR G o1 x3.toNatClampNeg a6) r)
    : wk_V w mJ26_split j 155 [(1, vR a1), (2, vR a2), (3, vI x3), (4, vI x4), (6, vR a6), (8, vR a8), (11, vI x11)] [] G r := by
  refine wk_aload_n 2 dJ26_split_155 rfl rfl ?_
  refine wk_iload_n 3 dJ26_split_156 rfl rfl ?_
  refine wk_aload dJ26_split_157 rfl ?_
  refine wk_e3 e1 ?_
  refine wk_aast hk4 hT6 hA3 hi2 hx7 dJ26_split_159 ?_
  refine wk_aload dJ26_split_160 rfl ?_
  exact wk_ifnull 171 dJ26_split_162 (by decide) (fun h => (kt h)) (fun o9 h => (kf o9 h))
theorem blJ26_split_165 {w : WD} {j : JB} {r : Nat} {G : GH} {a1 : Option Nat} {a2 : Option Nat} {x3 : Int32} {x4 : Int32} {a6 : Option Nat} {a8 : Option Nat} {x11 : Int32} {o1 : Nat} {d' b' : Nat} {P : Option WV → GH → Prop} {PX : String → Nat → GH → Prop}
    (e1 : a6 = some o1)
    (hkr : hp_kd G o1 = 25)
    (hC : wk_C w mJ26_treeify d' b' [vR (some o1), vR a2] G P PX)
    (hdp : d' + 1 ≤ j.1)
    (hb : b' ≤ r)
    (kr : ∀ v G', P v G' → wk_V w mJ26_split j 171 [(1, vR a1), (2, vR a2), (3, vI x3), (4, vI x4), (6, vR a6), (8, vR a8), (11, vI x11)] (v.toList ++ []) G' (r - b'))
    (kx : ∀ E q G', PX E q G' → wk_T w mJ26_split j 168 [(1, vR a1), (2, vR a2), (3, vI x3), (4, vI x4), (6, vR a6), (8, vR a8), (11, vI x11)] G' (r - b') E q)
    : wk_V w mJ26_split j 165 [(1, vR a1), (2, vR a2), (3, vI x3), (4, vI x4), (6, vR a6), (8, vR a8), (11, vI x11)] [] G r := by
  refine wk_aload dJ26_split_165 rfl ?_
  refine wk_aload_n 2 dJ26_split_167 rfl rfl ?_
  refine wk_eAt 1 e1 rfl ?_
  exact wk_callV hC rfl q1621 q1622 q1623 q149 q1624 mdJ26_treeify (Nat.le_of_ble_eq_true rfl) ⟨by show hp_kd G o1 ≠ 0; rw [hkr]; decide, by show hp_kd G o1 < 28; rw [hkr]; decide, by show hp_C (hp_kd G o1) = _; rw [hkr]; rfl⟩ rfl rfl (Nat.le_of_ble_eq_true rfl) hdp hb dJ26_split_168 kr kx
theorem blJ26_split_171 {w : WD} {j : JB} {r : Nat} {G : GH} {a1 : Option Nat} {a2 : Option Nat} {x3 : Int32} {x4 : Int32} {a6 : Option Nat} {a8 : Option Nat} {x11 : Int32}
    (kt : a8 = none → wk_V w mJ26_split j 217 [] [] G r)
    (kf : ∀ o9, a8 = some o9 → wk_V w mJ26_split j 176 [(1, vR a1), (2, vR a2), (3, vI x3), (4, vI x4), (6, vR a6), (8, vR a8), (11, vI x11)] [] G r)
    : wk_V w mJ26_split j 171 [(1, vR a1), (2, vR a2), (3, vI x3), (4, vI x4), (6, vR a6), (8, vR a8), (11, vI x11)] [] G r := by
  refine wk_aload dJ26_split_171 rfl ?_
  exact wk_ifnull 217 dJ26_split_173 (by decide) (fun h => (wk_sub [] trivial (kt h))) (fun o9 h => (kf o9 h))
theorem blJ26_split_176 {w : WD} {j : JB} {r : Nat} {G : GH} {a1 : Option Nat} {a2 : Option Nat} {x3 : Int32} {x4 : Int32} {a6 : Option Nat} {a8 : Option Nat} {x11 : Int32}
    (kt : (6 : Int32) < x11 → wk_V w mJ26_split j 198 [(2, vR a2), (3, vI x3), (4, vI x4), (6, vR a6), (8, vR a8)] [] G r)
    (kf : ¬ ((6 : Int32) < x11) → wk_V w mJ26_split j 183 [(1, vR a1), (2, vR a2), (3, vI x3), (4, vI x4), (8, vR a8)] [] G r)
    : wk_V w mJ26_split j 176 [(1, vR a1), (2, vR a2), (3, vI x3), (4, vI x4), (6, vR a6), (8, vR a8), (11, vI x11)] [] G r := by
  refine wk_iload dJ26_split_176 rfl ?_
  refine wk_bipush (6 : Int32) dJ26_split_178 (by decide) ?_
  exact wk_icmp_gt 198 dJ26_split_180 (by decide) (fun h => (wk_sub [(2, vR a2), (3, vI x3), (4, vI x4), (6, vR a6), (8, vR a8)] ⟨rfl, rfl, rfl, rfl, rfl, trivial⟩ (kt h))) (fun h => (wk_sub [(1, vR a1), (2, vR a2), (3, vI x3), (4, vI x4), (8, vR a8)] ⟨rfl, rfl, rfl, rfl, rfl, trivial⟩ (kf h)))
theorem blJ26_split_183 {w : WD} {j : JB} {r : Nat} {G : GH} {a1 : Option Nat} {a2 : Option Nat} {x3 : Int32} {x4 : Int32} {a8 : Option Nat} {o1 : Nat} {d' b' : Nat} {P : Option WV → GH → Prop} {PX : String → Nat → GH → Prop}
    (e1 : a8 = some o1)
    (hkr : hp_kd G o1 = 25)
    (hC : wk_C w mJ26_untreeify d' b' [vR (some o1), vR a1] G P PX)
    (hdp : d' + 1 ≤ j.1)
    (hb : b' ≤ r)
    (kr : ∀ v G', P v G' → wk_V w mJ26_split j 194 [] (v.toList ++ [vI (x3 + x4), vR a2]) G' (r - b'))
    (kx : ∀ E q G', PX E q G' → wk_T w mJ26_split j 191 [(1, vR a1), (2, vR a2), (3, vI x3), (4, vI x4), (8, vR a8)] G' (r - b') E q)
    : wk_V w mJ26_split j 183 [(1, vR a1), (2, vR a2), (3, vI x3), (4, vI x4), (8, vR a8)] [] G r := by
  refine wk_aload_n 2 dJ26_split_183 rfl rfl ?_
  refine wk_iload_n 3 dJ26_split_184 rfl rfl ?_
  refine wk_iload dJ26_split_185 rfl ?_
  refine wk_iadd dJ26_split_187 ?_
  refine wk_aload dJ26_split_188 rfl ?_
  refine wk_aload_n 1 dJ26_split_190 rfl rfl ?_
  refine wk_eAt 1 e1 rfl ?_
  exact wk_callV hC rfl q1583 q1584 q1585 q149 q1586 mdJ26_untreeify (Nat.le_of_ble_eq_true rfl) ⟨by show hp_kd G o1 ≠ 0; rw [hkr]; decide, by show hp_kd G o1 < 28; rw [hkr]; decide, by show hp_C (hp_kd G o1) = _; rw [hkr]; rfl⟩ rfl rfl (Nat.le_of_ble_eq_true rfl) hdp hb dJ26_split_191 (fun v G' h => (wk_sub [] trivial (kr v G' h))) kx
theorem blJ26_split_194 {w : WD} {j : JB} {r : Nat} {G : GH} {sa0 : Option Nat} {s1 : Int32} {sa2 : Option Nat} {o1 : Nat} {T5 : String}
    (e1 : sa0 = some o1)
    (hi2 : vp_in s1 (hp_ln G o1))
    (hA3 : hp_A w o1)
    (hk4 : 32 ≤ hp_kd G o1)
    (hT6 : hp_at (hp_kd G o1) = .object T5)
    (hx7 : ∀ b, sa2 = some b → hp_kd G b ≠ 0 ∧ hp_kd G b < 28 ∧ hp_sub (hp_kd G b) T5)
    (k : wk_V w mJ26_split j 217 [] [] (hp_sR G o1 s1.toNatClampNeg sa2) r)
    : wk_V w mJ26_split j 194 [] [vR sa2, vI s1, vR sa0] G r := by
  refine wk_e3 e1 ?_
  refine wk_aast hk4 hT6 hA3 hi2 hx7 dJ26_split_194 ?_
  exact wk_goto 217 dJ26_split_195 (by decide) k
theorem blJ26_split_198 {w : WD} {j : JB} {r : Nat} {G : GH} {a2 : Option Nat} {x3 : Int32} {x4 : Int32} {a6 : Option Nat} {a8 : Option Nat} {o1 : Nat} {T5 : String}
    (e1 : a2 = some o1)
    (hi2 : vp_in (x3 + x4) (hp_ln G o1))
    (hA3 : hp_A w o1)
    (hk4 : 32 ≤ hp_kd G o1)
    (hT6 : hp_at (hp_kd G o1) = .object T5)
    (hx7 : ∀ b, a8 = some b → hp_kd G b ≠ 0 ∧ hp_kd G b < 28 ∧ hp_sub (hp_kd G b) T5)
    (kt : a6 = none → wk_V w mJ26_split j 217 [] [] (hp_sR G o1 (x3 + x4).toNatClampNeg a8) r)
    (kf : ∀ o9, a6 = some o9 → wk_V w mJ26_split j 211 [(2, vR a2), (8, vR a8)] [] (hp_sR G o1 (x3 + x4).toNatClampNeg a8) r)
    : wk_V w mJ26_split j 198 [(2, vR a2), (3, vI x3), (4, vI x4), (6, vR a6), (8, vR a8)] [] G r := by
  refine wk_aload_n 2 dJ26_split_198 rfl rfl ?_
  refine wk_iload_n 3 dJ26_split_199 rfl rfl ?_
  refine wk_iload dJ26_split_200 rfl ?_
  refine wk_iadd dJ26_split_202 ?_
  refine wk_aload dJ26_split_203 rfl ?_
  refine wk_e3 e1 ?_
  refine wk_aast hk4 hT6 hA3 hi2 hx7 dJ26_split_205 ?_
  refine wk_aload dJ26_split_206 rfl ?_
  exact wk_ifnull 217 dJ26_split_208 (by decide) (fun h => (wk_sub [] trivial (kt h))) (fun o9 h => (wk_sub [(2, vR a2), (8, vR a8)] ⟨rfl, rfl, trivial⟩ (kf o9 h)))
theorem blJ26_split_211 {w : WD} {j : JB} {r : Nat} {G : GH} {a2 : Option Nat} {a8 : Option Nat} {o1 : Nat} {d' b' : Nat} {P : Option WV → GH → Prop} {PX : String → Nat → GH → Prop}
    (e1 : a8 = some o1)
    (hkr : hp_kd G o1 = 25)
    (hC : wk_C w mJ26_treeify d' b' [vR (some o1), vR a2] G P PX)
    (hdp : d' + 1 ≤ j.1)
    (hb : b' ≤ r)
    (kr : ∀ v G', P v G' → wk_V w mJ26_split j 217 [] (v.toList ++ []) G' (r - b'))
    (kx : ∀ E q G', PX E q G' → wk_T w mJ26_split j 214 [(2, vR a2), (8, vR a8)] G' (r - b') E q)
    : wk_V w mJ26_split j 211 [(2, vR a2), (8, vR a8)] [] G r := by
  refine wk_aload dJ26_split_211 rfl ?_
  refine wk_aload_n 2 dJ26_split_213 rfl rfl ?_
  refine wk_eAt 1 e1 rfl ?_
  exact wk_callV hC rfl q1621 q1622 q1623 q149 q1624 mdJ26_treeify (Nat.le_of_ble_eq_true rfl) ⟨by show hp_kd G o1 ≠ 0; rw [hkr]; decide, by show hp_kd G o1 < 28; rw [hkr]; decide, by show hp_C (hp_kd G o1) = _; rw [hkr]; rfl⟩ rfl rfl (Nat.le_of_ble_eq_true rfl) hdp hb dJ26_split_214 (fun v G' h => (wk_sub [] trivial (kr v G' h))) kx
theorem blJ26_split_217 {w : WD} {j : JB} {r : Nat} {G : GH}
    (hP : j.2.2.1 none G)
    : wk_V w mJ26_split j 217 [] [] G r := by
  exact wk_return rfl dJ26_split_217 hP
/-! java/util/HashMap$TreeNode.treeify([Ljava/util/HashMap$Node;)V -/
theorem blJ26_treeify_0 {w : WD} {j : JB} {r : Nat} {G : GH} {a0 : Nat} {a1 : Option Nat}
    (k : wk_V w mJ26_treeify j 4 [(1, vR a1), (2, vR none), (3, vR (some a0))] [] G r)
    : wk_V w mJ26_treeify j 0 [(0, vR (some a0)), (1, vR a1)] [] G r := by
  refine wk_null dJ26_treeify_0 ?_
  refine wk_astore_n 2 dJ26_treeify_1 rfl (Nat.le_of_ble_eq_true rfl) ?_
  refine wk_aload_n 0 dJ26_treeify_2 rfl rfl ?_
  refine wk_astore_n 3 dJ26_treeify_3 rfl (Nat.le_of_ble_eq_true rfl) ?_
  exact (wk_sub [(1, vR a1), (2, vR none), (3, vR (some a0))] ⟨rfl, rfl, rfl, trivial⟩ k)
theorem blJ26_treeify_4 {w : WD} {j : JB} {r : Nat} {G : GH} {a1 : Option Nat} {a2 : Option Nat} {a3 : Option Nat}
    (kt : a3 = none → wk_V w mJ26_treeify j 215 [(1, vR a1), (2, vR a2)] [] G r)
    (kf : ∀ o9, a3 = some o9 → wk_V w mJ26_treeify j 8 [(1, vR a1), (2, vR a2), (3, vR a3)] [] G r)
    : wk_V w mJ26_treeify j 4 [(1, vR a1), (2, vR a2), (3, vR a3)] [] G r := by
  refine wk_aload_n 3 dJ26_treeify_4 rfl rfl ?_
  exact wk_ifnull 215 dJ26_treeify_5 (by decide) (fun h => (wk_sub [(1, vR a1), (2, vR a2)] ⟨rfl, rfl, trivial⟩ (kt h))) (fun o9 h => (kf o9 h))
theorem blJ26_treeify_8 {w : WD} {j : JB} {r : Nat} {G : GH} {a1 : Option Nat} {a2 : Option Nat} {a3 : Option Nat} {o1 : Nat}
    (e1 : a3 = some o1)
    (hk2 : hp_kd G o1 = 25)
    (hc3 : ∀ a, (hp_r G o1 3) = some a → hp_kd G a ≠ 0 ∧ hp_kd G a < 28 ∧ hp_sub (hp_kd G a) "java/util/HashMap$TreeNode")
    (hA5 : hp_A w o1)
    (k : wk_V w mJ26_treeify j 27 [(1, vR a1), (2, vR a2), (3, vR a3), (4, vR (hp_r G o1 3))] [] (hp_sR (hp_sR G o1 6 none) o1 5 none) r)
    : wk_V w mJ26_treeify j 8 [(1, vR a1), (2, vR a2), (3, vR a3)] [] G r := by
  refine wk_aload_n 3 dJ26_treeify_8 rfl rfl ?_
  refine wk_e e1 ?_
  refine wk_getR 25 3 flJ26_22 rfl hk2 dJ26_treeify_9 ?_
  refine wk_castQ q1582 hc3 dJ26_treeify_12 ?_
  refine wk_astore dJ26_treeify_15 (Nat.le_of_ble_eq_true rfl) ?_
  refine wk_aload_n 3 dJ26_treeify_17 rfl rfl ?_
  refine wk_aload_n 3 dJ26_treeify_18 rfl rfl ?_
  refine wk_null dJ26_treeify_19 ?_
  refine wk_dup_x1 dJ26_treeify_20 rfl rfl ?_
  refine wk_e2 e1 ?_
  refine wk_putR 25 6 flJ26_42 rfl (Or.inl rfl) hk2 hA5 dJ26_treeify_21 ?_
  refine wk_e2 e1 ?_
  refine wk_putR 25 5 flJ26_39 rfl (Or.inl rfl) hk2 hA5 dJ26_treeify_24 ?_
  exact k
theorem blJ26_treeify_27 {w : WD} {j : JB} {r : Nat} {G : GH} {a1 : Option Nat} {a2 : Option Nat} {a3 : Option Nat} {a4 : Option Nat}
    (kt : ∀ o9, a2 = some o9 → wk_V w mJ26_treeify j 46 [(1, vR a1), (2, vR a2), (3, vR a3), (4, vR a4)] [] G r)
    (kf : a2 = none → wk_V w mJ26_treeify j 31 [(1, vR a1), (3, vR a3), (4, vR a4)] [] G r)
    : wk_V w mJ26_treeify j 27 [(1, vR a1), (2, vR a2), (3, vR a3), (4, vR a4)] [] G r := by
  refine wk_aload_n 2 dJ26_treeify_27 rfl rfl ?_
  exact wk_ifnonnull 46 dJ26_treeify_28 (by decide) (fun o9 h => (kt o9 h)) (fun h => (wk_sub [(1, vR a1), (3, vR a3), (4, vR a4)] ⟨rfl, rfl, rfl, trivial⟩ (kf h)))
theorem blJ26_treeify_31 {w : WD} {j : JB} {r : Nat} {G : GH} {a1 : Option Nat} {a3 : Option Nat} {a4 : Option Nat} {o1 : Nat}
    (e1 : a3 = some o1)
    (hk2 : hp_kd G o1 = 25)
    (hA3 : hp_A w o1)
    (k : wk_V w mJ26_treeify j 41 [(1, vR a1), (3, vR a3), (4, vR a4)] [] (hp_sI (hp_sR G o1 4 none) o1 8 (0 : Int32)) r)
    : wk_V w mJ26_treeify j 31 [(1, vR a1), (3, vR a3), (4, vR a4)] [] G r := by
  refine wk_aload_n 3 dJ26_treeify_31 rfl rfl ?_
  refine wk_null dJ26_treeify_32 ?_
  refine wk_e2 e1 ?_
  refine wk_putR 25 4 flJ26_9 rfl (Or.inl rfl) hk2 hA3 dJ26_treeify_33 ?_
  refine wk_aload_n 3 dJ26_treeify_36 rfl rfl ?_
  refine wk_iconst (0 : Int32) dJ26_treeify_37 (by decide) ?_
  refine wk_e2 e1 ?_
  refine wk_putI 25 8 flJ26_93 rfl (Or.inl rfl) hk2 hA3 ⟨rfl, rfl⟩ dJ26_treeify_38 ?_
  exact k
theorem blJ26_treeify_41 {w : WD} {j : JB} {r : Nat} {G : GH} {a1 : Option Nat} {a3 : Option Nat} {a4 : Option Nat}
    (k : wk_V w mJ26_treeify j 209 [(1, vR a1), (2, vR a3), (4, vR a4)] [] G r)
    : wk_V w mJ26_treeify j 41 [(1, vR a1), (3, vR a3), (4, vR a4)] [] G r := by
  refine wk_aload_n 3 dJ26_treeify_41 rfl rfl ?_
  refine wk_astore_n 2 dJ26_treeify_42 rfl (Nat.le_of_ble_eq_true rfl) ?_
  exact wk_goto 209 dJ26_treeify_43 (by decide) (wk_sub [(1, vR a1), (2, vR a3), (4, vR a4)] ⟨rfl, rfl, rfl, trivial⟩ k)
theorem blJ26_treeify_46 {w : WD} {j : JB} {r : Nat} {G : GH} {a1 : Option Nat} {a2 : Option Nat} {a3 : Option Nat} {a4 : Option Nat} {o1 : Nat}
    (e1 : a3 = some o1)
    (hk2 : hp_kd G o1 = 25)
    (k : wk_V w mJ26_treeify j 64 [(1, vR a1), (2, vR a2), (3, vR a3), (4, vR a4), (5, vR (hp_r G o1 1)), (6, vI (hp_i G o1 0)), (7, vR none), (8, vR a2)] [] G r)
    : wk_V w mJ26_treeify j 46 [(1, vR a1), (2, vR a2), (3, vR a3), (4, vR a4)] [] G r := by
  refine wk_aload_n 3 dJ26_treeify_46 rfl rfl ?_
  refine wk_e e1 ?_
  refine wk_getR 25 1 flJ26_45 rfl hk2 dJ26_treeify_47 ?_
  refine wk_astore dJ26_treeify_50 (Nat.le_of_ble_eq_true rfl) ?_
  refine wk_aload_n 3 dJ26_treeify_52 rfl rfl ?_
  refine wk_e e1 ?_
  refine wk_getI 25 0 flJ26_15 rfl hk2 dJ26_treeify_53 ?_
  refine wk_istore dJ26_treeify_56 (Nat.le_of_ble_eq_true rfl) ?_
  refine wk_null dJ26_treeify_58 ?_
  refine wk_astore dJ26_treeify_59 (Nat.le_of_ble_eq_true rfl) ?_
  refine wk_aload_n 2 dJ26_treeify_61 rfl rfl ?_
  refine wk_astore dJ26_treeify_62 (Nat.le_of_ble_eq_true rfl) ?_
  exact k
theorem blJ26_treeify_64 {w : WD} {j : JB} {r : Nat} {G : GH} {a1 : Option Nat} {a2 : Option Nat} {a3 : Option Nat} {a4 : Option Nat} {a5 : Option Nat} {x6 : Int32} {a7 : Option Nat} {a8 : Option Nat} {o1 : Nat}
    (e1 : a8 = some o1)
    (hk2 : hp_kd G o1 = 25)
    (kt : (hp_i G o1 0) ≤ x6 → wk_V w mJ26_treeify j 90 [(1, vR a1), (2, vR a2), (3, vR a3), (4, vR a4), (5, vR a5), (6, vI x6), (7, vR a7), (8, vR a8), (10, vI (hp_i G o1 0)), (11, vR (hp_r G o1 1))] [] G r)
    (kf : ¬ ((hp_i G o1 0) ≤ x6) → wk_V w mJ26_treeify j 84 [(1, vR a1), (2, vR a2), (3, vR a3), (4, vR a4), (5, vR a5), (6, vI x6), (7, vR a7), (8, vR a8)] [] G r)
    : wk_V w mJ26_treeify j 64 [(1, vR a1), (2, vR a2), (3, vR a3), (4, vR a4), (5, vR a5), (6, vI x6), (7, vR a7), (8, vR a8)] [] G r := by
  refine wk_aload dJ26_treeify_64 rfl ?_
  refine wk_e e1 ?_
  refine wk_getR 25 1 flJ26_45 rfl hk2 dJ26_treeify_66 ?_
  refine wk_astore dJ26_treeify_69 (Nat.le_of_ble_eq_true rfl) ?_
  refine wk_aload dJ26_treeify_71 rfl ?_
  refine wk_e e1 ?_
  refine wk_getI 25 0 flJ26_15 rfl hk2 dJ26_treeify_73 ?_
  refine wk_dup dJ26_treeify_76 rfl ?_
  refine wk_istore dJ26_treeify_77 (Nat.le_of_ble_eq_true rfl) ?_
  refine wk_iload dJ26_treeify_79 rfl ?_
  exact wk_icmp_le 90 dJ26_treeify_81 (by decide) (fun h => (kt h)) (fun h => (wk_sub [(1, vR a1), (2, vR a2), (3, vR a3), (4, vR a4), (5, vR a5), (6, vI x6), (7, vR a7), (8, vR a8)] ⟨rfl, rfl, rfl, rfl, rfl, rfl, rfl, rfl, trivial⟩ (kf h)))
theorem blJ26_treeify_84 {w : WD} {j : JB} {r : Nat} {G : GH} {a1 : Option Nat} {a2 : Option Nat} {a3 : Option Nat} {a4 : Option Nat} {a5 : Option Nat} {x6 : Int32} {a7 : Option Nat} {a8 : Option Nat}
    (k : wk_V w mJ26_treeify j 143 [(1, vR a1), (2, vR a2), (3, vR a3), (4, vR a4), (5, vR a5), (6, vI x6), (7, vR a7), (8, vR a8), (9, vI (-1 : Int32))] [] G r)
    : wk_V w mJ26_treeify j 84 [(1, vR a1), (2, vR a2), (3, vR a3), (4, vR a4), (5, vR a5), (6, vI x6), (7, vR a7), (8, vR a8)] [] G r := by
  refine wk_iconst (-1 : Int32) dJ26_treeify_84 (by decide) ?_
  refine wk_istore dJ26_treeify_85 (Nat.le_of_ble_eq_true rfl) ?_
  exact wk_goto 143 dJ26_treeify_87 (by decide) k
theorem blJ26_treeify_90 {w : WD} {j : JB} {r : Nat} {G : GH} {a1 : Option Nat} {a2 : Option Nat} {a3 : Option Nat} {a4 : Option Nat} {a5 : Option Nat} {x6 : Int32} {a7 : Option Nat} {a8 : Option Nat} {x10 : Int32} {a11 : Option Nat}
    (kt : x6 ≤ x10 → wk_V w mJ26_treeify j 103 [(1, vR a1), (2, vR a2), (3, vR a3), (4, vR a4), (5, vR a5), (6, vI x6), (7, vR a7), (8, vR a8), (11, vR a11)] [] G r)
    (kf : ¬ (x6 ≤ x10) → wk_V w mJ26_treeify j 97 [(1, vR a1), (2, vR a2), (3, vR a3), (4, vR a4), (5, vR a5), (6, vI x6), (7, vR a7), (8, vR a8)] [] G r)
    : wk_V w mJ26_treeify j 90 [(1, vR a1), (2, vR a2), (3, vR a3), (4, vR a4), (5, vR a5), (6, vI x6), (7, vR a7), (8, vR a8), (10, vI x10), (11, vR a11)] [] G r := by
  refine wk_iload dJ26_treeify_90 rfl ?_
  refine wk_iload dJ26_treeify_92 rfl ?_
  exact wk_icmp_ge 103 dJ26_treeify_94 (by decide) (fun h => (wk_sub [(1, vR a1), (2, vR a2), (3, vR a3), (4, vR a4), (5, vR a5), (6, vI x6), (7, vR a7), (8, vR a8), (11, vR a11)] ⟨rfl, rfl, rfl, rfl, rfl, rfl, rfl, rfl, rfl, trivial⟩ (kt h))) (fun h => (wk_sub [(1, vR a1), (2, vR a2), (3, vR a3), (4, vR a4), (5, vR a5), (6, vI x6), (7, vR a7), (8, vR a8)] ⟨rfl, rfl, rfl, rfl, rfl, rfl, rfl, rfl, trivial⟩ (kf h)))
theorem blJ26_treeify_97 {w : WD} {j : JB} {r : Nat} {G : GH} {a1 : Option Nat} {a2 : Option Nat} {a3 : Option Nat} {a4 : Option Nat} {a5 : Option Nat} {x6 : Int32} {a7 : Option Nat} {a8 : Option Nat}
    (k : wk_V w mJ26_treeify j 143 [(1, vR a1), (2, vR a2), (3, vR a3), (4, vR a4), (5, vR a5), (6, vI x6), (7, vR a7), (8, vR a8), (9, vI (1 : Int32))] [] G r)
    : wk_V w mJ26_treeify j 97 [(1, vR a1), (2, vR a2), (3, vR a3), (4, vR a4), (5, vR a5), (6, vI x6), (7, vR a7), (8, vR a8)] [] G r := by
  refine wk_iconst (1 : Int32) dJ26_treeify_97 (by decide) ?_
  refine wk_istore dJ26_treeify_98 (Nat.le_of_ble_eq_true rfl) ?_
  exact wk_goto 143 dJ26_treeify_100 (by decide) k
theorem blJ26_treeify_103 {w : WD} {j : JB} {r : Nat} {G : GH} {a1 : Option Nat} {a2 : Option Nat} {a3 : Option Nat} {a4 : Option Nat} {a5 : Option Nat} {x6 : Int32} {a7 : Option Nat} {a8 : Option Nat} {a11 : Option Nat}
    (kt : ∀ o9, a7 = some o9 → wk_V w mJ26_treeify j 119 [(1, vR a1), (2, vR a2), (3, vR a3), (4, vR a4), (5, vR a5), (6, vI x6), (7, vR a7), (8, vR a8), (11, vR a11)] [] G r)
    (kf : a7 = none → wk_V w mJ26_treeify j 108 [(1, vR a1), (2, vR a2), (3, vR a3), (4, vR a4), (5, vR a5), (6, vI x6), (8, vR a8), (11, vR a11)] [] G r)
    : wk_V w mJ26_treeify j 103 [(1, vR a1), (2, vR a2), (3, vR a3), (4, vR a4), (5, vR a5), (6, vI x6), (7, vR a7), (8, vR a8), (11, vR a11)] [] G r := by
  refine wk_aload dJ26_treeify_103 rfl ?_
  exact wk_ifnonnull 119 dJ26_treeify_105 (by decide) (fun o9 h => (kt o9 h)) (fun h => (wk_sub [(1, vR a1), (2, vR a2), (3, vR a3), (4, vR a4), (5, vR a5), (6, vI x6), (8, vR a8), (11, vR a11)] ⟨rfl, rfl, rfl, rfl, rfl, rfl, rfl, rfl, trivial⟩ (kf h)))
theorem blJ26_treeify_108 {w : WD} {j : JB} {r : Nat} {G : GH} {a1 : Option Nat} {a2 : Option Nat} {a3 : Option Nat} {a4 : Option Nat} {a5 : Option Nat} {x6 : Int32} {a8 : Option Nat} {a11 : Option Nat} {d' b' : Nat} {P : Option WV → GH → Prop} {PX : String → Nat → GH → Prop}
    (hC : wk_C w mJ7_comparableClassFor d' b' [vR a5] G P PX)
    (hdp : d' + 1 ≤ j.1)
    (hb : b' ≤ r)
    (kr : ∀ v G', P v G' → wk_V w mJ26_treeify j 113 [(1, vR a1), (2, vR a2), (3, vR a3), (4, vR a4), (5, vR a5), (6, vI x6), (8, vR a8), (11, vR a11)] (v.toList ++ []) G' (r - b'))
    (kx : ∀ E q G', PX E q G' → wk_T w mJ26_treeify j 110 [(1, vR a1), (2, vR a2), (3, vR a3), (4, vR a4), (5, vR a5), (6, vI x6), (8, vR a8), (11, vR a11)] G' (r - b') E q)
    : wk_V w mJ26_treeify j 108 [(1, vR a1), (2, vR a2), (3, vR a3), (4, vR a4), (5, vR a5), (6, vI x6), (8, vR a8), (11, vR a11)] [] G r := by
  refine wk_aload dJ26_treeify_108 rfl ?_
  exact wk_callS hC rfl q1096 q1097 q119 q1098 mdJ7_comparableClassFor (Nat.le_of_ble_eq_true rfl) rfl rfl (Nat.le_of_ble_eq_true rfl) hdp hb dJ26_treeify_110 kr kx
theorem blJ26_treeify_113 {w : WD} {j : JB} {r : Nat} {G : GH} {a1 : Option Nat} {a2 : Option Nat} {a3 : Option Nat} {a4 : Option Nat} {a5 : Option Nat} {x6 : Int32} {a8 : Option Nat} {a11 : Option Nat} {sa0 : Option Nat}
    (kt : sa0 = none → wk_V w mJ26_treeify j 134 [(1, vR a1), (2, vR a2), (3, vR a3), (4, vR a4), (5, vR a5), (6, vI x6), (7, vR sa0), (8, vR a8), (11, vR a11)] [] G r)
    (kf : ∀ o9, sa0 = some o9 → wk_V w mJ26_treeify j 119 [(1, vR a1), (2, vR a2), (3, vR a3), (4, vR a4), (5, vR a5), (6, vI x6), (7, vR sa0), (8, vR a8), (11, vR a11)] [] G r)
    : wk_V w mJ26_treeify j 113 [(1, vR a1), (2, vR a2), (3, vR a3), (4, vR a4), (5, vR a5), (6, vI x6), (8, vR a8), (11, vR a11)] [vR sa0] G r := by
  refine wk_dup dJ26_treeify_113 rfl ?_
  refine wk_astore dJ26_treeify_114 (Nat.le_of_ble_eq_true rfl) ?_
  exact wk_ifnull 134 dJ26_treeify_116 (by decide) (fun h => (kt h)) (fun o9 h => (kf o9 h))
theorem blJ26_treeify_119 {w : WD} {j : JB} {r : Nat} {G : GH} {a1 : Option Nat} {a2 : Option Nat} {a3 : Option Nat} {a4 : Option Nat} {a5 : Option Nat} {x6 : Int32} {a7 : Option Nat} {a8 : Option Nat} {a11 : Option Nat} {d' b' : Nat} {P : Option WV → GH → Prop} {PX : String → Nat → GH → Prop}
    (hC : wk_C w mJ7_compareComparables d' b' [vR a7, vR a5, vR a11] G P PX)
    (hdp : d' + 1 ≤ j.1)
    (hb : b' ≤ r)
    (kr : ∀ v G', P v G' → wk_V w mJ26_treeify j 128 [(1, vR a1), (2, vR a2), (3, vR a3), (4, vR a4), (5, vR a5), (6, vI x6), (7, vR a7), (8, vR a8), (11, vR a11)] (v.toList ++ []) G' (r - b'))
    (kx : ∀ E q G', PX E q G' → wk_T w mJ26_treeify j 125 [(1, vR a1), (2, vR a2), (3, vR a3), (4, vR a4), (5, vR a5), (6, vI x6), (7, vR a7), (8, vR a8), (11, vR a11)] G' (r - b') E q)
    : wk_V w mJ26_treeify j 119 [(1, vR a1), (2, vR a2), (3, vR a3), (4, vR a4), (5, vR a5), (6, vI x6), (7, vR a7), (8, vR a8), (11, vR a11)] [] G r := by
  refine wk_aload dJ26_treeify_119 rfl ?_
  refine wk_aload dJ26_treeify_121 rfl ?_
  refine wk_aload dJ26_treeify_123 rfl ?_
  exact wk_callS hC rfl q1139 q1140 q119 q1141 mdJ7_compareComparables (Nat.le_of_ble_eq_true rfl) rfl rfl (Nat.le_of_ble_eq_true rfl) hdp hb dJ26_treeify_125 kr kx
theorem blJ26_treeify_128 {w : WD} {j : JB} {r : Nat} {G : GH} {a1 : Option Nat} {a2 : Option Nat} {a3 : Option Nat} {a4 : Option Nat} {a5 : Option Nat} {x6 : Int32} {a7 : Option Nat} {a8 : Option Nat} {a11 : Option Nat} {s0 : Int32}
    (kt : ¬ (s0 = 0) → wk_V w mJ26_treeify j 143 [(1, vR a1), (2, vR a2), (3, vR a3), (4, vR a4), (5, vR a5), (6, vI x6), (7, vR a7), (8, vR a8), (9, vI s0)] [] G r)
    (kf : s0 = 0 → wk_V w mJ26_treeify j 134 [(1, vR a1), (2, vR a2), (3, vR a3), (4, vR a4), (5, vR a5), (6, vI x6), (7, vR a7), (8, vR a8), (11, vR a11)] [] G r)
    : wk_V w mJ26_treeify j 128 [(1, vR a1), (2, vR a2), (3, vR a3), (4, vR a4), (5, vR a5), (6, vI x6), (7, vR a7), (8, vR a8), (11, vR a11)] [vI s0] G r := by
  refine wk_dup dJ26_treeify_128 rfl ?_
  refine wk_istore dJ26_treeify_129 (Nat.le_of_ble_eq_true rfl) ?_
  exact wk_if_ne 143 dJ26_treeify_131 (by decide) (fun h => (wk_sub [(1, vR a1), (2, vR a2), (3, vR a3), (4, vR a4), (5, vR a5), (6, vI x6), (7, vR a7), (8, vR a8), (9, vI s0)] ⟨rfl, rfl, rfl, rfl, rfl, rfl, rfl, rfl, rfl, trivial⟩ (kt h))) (fun h => (wk_sub [(1, vR a1), (2, vR a2), (3, vR a3), (4, vR a4), (5, vR a5), (6, vI x6), (7, vR a7), (8, vR a8), (11, vR a11)] ⟨rfl, rfl, rfl, rfl, rfl, rfl, rfl, rfl, rfl, trivial⟩ (kf h)))
-- blJ26_treeify_134: left out (call without a link)
theorem blJ26_treeify_143 {w : WD} {j : JB} {r : Nat} {G : GH} {a1 : Option Nat} {a2 : Option Nat} {a3 : Option Nat} {a4 : Option Nat} {a5 : Option Nat} {x6 : Int32} {a7 : Option Nat} {a8 : Option Nat} {x9 : Int32}
    (kt : 0 < x9 → wk_V w mJ26_treeify j 160 [(1, vR a1), (2, vR a2), (3, vR a3), (4, vR a4), (5, vR a5), (6, vI x6), (7, vR a7), (8, vR a8), (9, vI x9), (12, vR a8)] [] G r)
    (kf : ¬ (0 < x9) → wk_V w mJ26_treeify j 152 [(1, vR a1), (2, vR a2), (3, vR a3), (4, vR a4), (5, vR a5), (6, vI x6), (7, vR a7), (8, vR a8), (9, vI x9), (12, vR a8)] [] G r)
    : wk_V w mJ26_treeify j 143 [(1, vR a1), (2, vR a2), (3, vR a3), (4, vR a4), (5, vR a5), (6, vI x6), (7, vR a7), (8, vR a8), (9, vI x9)] [] G r := by
  refine wk_aload dJ26_treeify_143 rfl ?_
  refine wk_astore dJ26_treeify_145 (Nat.le_of_ble_eq_true rfl) ?_
  refine wk_iload dJ26_treeify_147 rfl ?_
  exact wk_if_gt 160 dJ26_treeify_149 (by decide) (fun h => (kt h)) (fun h => (kf h))
theorem blJ26_treeify_152 {w : WD} {j : JB} {r : Nat} {G : GH} {a1 : Option Nat} {a2 : Option Nat} {a3 : Option Nat} {a4 : Option Nat} {a5 : Option Nat} {x6 : Int32} {a7 : Option Nat} {a8 : Option Nat} {x9 : Int32} {a12 : Option Nat} {o1 : Nat}
    (e1 : a8 = some o1)
    (hk2 : hp_kd G o1 = 25)
    (k : wk_V w mJ26_treeify j 165 [(1, vR a1), (2, vR a2), (3, vR a3), (4, vR a4), (5, vR a5), (6, vI x6), (7, vR a7), (9, vI x9), (12, vR a12)] [vR (hp_r G o1 5)] G r)
    : wk_V w mJ26_treeify j 152 [(1, vR a1), (2, vR a2), (3, vR a3), (4, vR a4), (5, vR a5), (6, vI x6), (7, vR a7), (8, vR a8), (9, vI x9), (12, vR a12)] [] G r := by
  refine wk_aload dJ26_treeify_152 rfl ?_
  refine wk_e e1 ?_
  refine wk_getR 25 5 flJ26_39 rfl hk2 dJ26_treeify_154 ?_
  exact wk_goto 165 dJ26_treeify_157 (by decide) (wk_sub [(1, vR a1), (2, vR a2), (3, vR a3), (4, vR a4), (5, vR a5), (6, vI x6), (7, vR a7), (9, vI x9), (12, vR a12)] ⟨rfl, rfl, rfl, rfl, rfl, rfl, rfl, rfl, rfl, trivial⟩ k)
theorem blJ26_treeify_160 {w : WD} {j : JB} {r : Nat} {G : GH} {a1 : Option Nat} {a2 : Option Nat} {a3 : Option Nat} {a4 : Option Nat} {a5 : Option Nat} {x6 : Int32} {a7 : Option Nat} {a8 : Option Nat} {x9 : Int32} {a12 : Option Nat} {o1 : Nat}
    (e1 : a8 = some o1)
    (hk2 : hp_kd G o1 = 25)
    (k : wk_V w mJ26_treeify j 165 [(1, vR a1), (2, vR a2), (3, vR a3), (4, vR a4), (5, vR a5), (6, vI x6), (7, vR a7), (9, vI x9), (12, vR a12)] [vR (hp_r G o1 6)] G r)
    : wk_V w mJ26_treeify j 160 [(1, vR a1), (2, vR a2), (3, vR a3), (4, vR a4), (5, vR a5), (6, vI x6), (7, vR a7), (8, vR a8), (9, vI x9), (12, vR a12)] [] G r := by
  refine wk_aload dJ26_treeify_160 rfl ?_
  refine wk_e e1 ?_
  refine wk_getR 25 6 flJ26_42 rfl hk2 dJ26_treeify_162 ?_
  exact (wk_sub [(1, vR a1), (2, vR a2), (3, vR a3), (4, vR a4), (5, vR a5), (6, vI x6), (7, vR a7), (9, vI x9), (12, vR a12)] ⟨rfl, rfl, rfl, rfl, rfl, rfl, rfl, rfl, rfl, trivial⟩ k)
theorem blJ26_treeify_165 {w : WD} {j : JB} {r : Nat} {G : GH} {a1 : Option Nat} {a2 : Option Nat} {a3 : Option Nat} {a4 : Option Nat} {a5 : Option Nat} {x6 : Int32} {a7 : Option Nat} {x9 : Int32} {a12 : Option Nat} {sa0 : Option Nat}
    (kt : ∀ o9, sa0 = some o9 → wk_V w mJ26_treeify j 206 [(1, vR a1), (2, vR a2), (3, vR a3), (4, vR a4), (5, vR a5), (6, vI x6), (7, vR a7), (8, vR sa0)] [] G r)
    (kf : sa0 = none → wk_V w mJ26_treeify j 171 [(1, vR a1), (2, vR a2), (3, vR a3), (4, vR a4), (9, vI x9), (12, vR a12)] [] G r)
    : wk_V w mJ26_treeify j 165 [(1, vR a1), (2, vR a2), (3, vR a3), (4, vR a4), (5, vR a5), (6, vI x6), (7, vR a7), (9, vI x9), (12, vR a12)] [vR sa0] G r := by
  refine wk_dup dJ26_treeify_165 rfl ?_
  refine wk_astore dJ26_treeify_166 (Nat.le_of_ble_eq_true rfl) ?_
  exact wk_ifnonnull 206 dJ26_treeify_168 (by decide) (fun o9 h => (wk_sub [(1, vR a1), (2, vR a2), (3, vR a3), (4, vR a4), (5, vR a5), (6, vI x6), (7, vR a7), (8, vR sa0)] ⟨rfl, rfl, rfl, rfl, rfl, rfl, rfl, rfl, trivial⟩ (kt o9 h))) (fun h => (wk_sub [(1, vR a1), (2, vR a2), (3, vR a3), (4, vR a4), (9, vI x9), (12, vR a12)] ⟨rfl, rfl, rfl, rfl, rfl, rfl, trivial⟩ (kf h)))
theorem blJ26_treeify_171 {w : WD} {j : JB} {r : Nat} {G : GH} {a1 : Option Nat} {a2 : Option Nat} {a3 : Option Nat} {a4 : Option Nat} {x9 : Int32} {a12 : Option Nat} {o1 : Nat}
    (e1 : a3 = some o1)
    (hk2 : hp_kd G o1 = 25)
    (hA3 : hp_A w o1)
    (kt : 0 < x9 → wk_V w mJ26_treeify j 191 [(1, vR a1), (2, vR a2), (3, vR a3), (4, vR a4), (12, vR a12)] [] (hp_sR G o1 4 a12) r)
    (kf : ¬ (0 < x9) → wk_V w mJ26_treeify j 182 [(1, vR a1), (2, vR a2), (3, vR a3), (4, vR a4), (12, vR a12)] [] (hp_sR G o1 4 a12) r)
    : wk_V w mJ26_treeify j 171 [(1, vR a1), (2, vR a2), (3, vR a3), (4, vR a4), (9, vI x9), (12, vR a12)] [] G r := by
  refine wk_aload_n 3 dJ26_treeify_171 rfl rfl ?_
  refine wk_aload dJ26_treeify_172 rfl ?_
  refine wk_e2 e1 ?_
  refine wk_putR 25 4 flJ26_9 rfl (Or.inl rfl) hk2 hA3 dJ26_treeify_174 ?_
  refine wk_iload dJ26_treeify_177 rfl ?_
  exact wk_if_gt 191 dJ26_treeify_179 (by decide) (fun h => (wk_sub [(1, vR a1), (2, vR a2), (3, vR a3), (4, vR a4), (12, vR a12)] ⟨rfl, rfl, rfl, rfl, rfl, trivial⟩ (kt h))) (fun h => (wk_sub [(1, vR a1), (2, vR a2), (3, vR a3), (4, vR a4), (12, vR a12)] ⟨rfl, rfl, rfl, rfl, rfl, trivial⟩ (kf h)))
theorem blJ26_treeify_182 {w : WD} {j : JB} {r : Nat} {G : GH} {a1 : Option Nat} {a2 : Option Nat} {a3 : Option Nat} {a4 : Option Nat} {a12 : Option Nat} {o1 : Nat}
    (e1 : a12 = some o1)
    (hk2 : hp_kd G o1 = 25)
    (hA3 : hp_A w o1)
    (k : wk_V w mJ26_treeify j 197 [(1, vR a1), (2, vR a2), (3, vR a3), (4, vR a4)] [] (hp_sR G o1 5 a3) r)
    : wk_V w mJ26_treeify j 182 [(1, vR a1), (2, vR a2), (3, vR a3), (4, vR a4), (12, vR a12)] [] G r := by
  refine wk_aload dJ26_treeify_182 rfl ?_
  refine wk_aload_n 3 dJ26_treeify_184 rfl rfl ?_
  refine wk_e2 e1 ?_
  refine wk_putR 25 5 flJ26_39 rfl (Or.inl rfl) hk2 hA3 dJ26_treeify_185 ?_
  exact wk_goto 197 dJ26_treeify_188 (by decide) (wk_sub [(1, vR a1), (2, vR a2), (3, vR a3), (4, vR a4)] ⟨rfl, rfl, rfl, rfl, trivial⟩ k)
theorem blJ26_treeify_191 {w : WD} {j : JB} {r : Nat} {G : GH} {a1 : Option Nat} {a2 : Option Nat} {a3 : Option Nat} {a4 : Option Nat} {a12 : Option Nat} {o1 : Nat}
    (e1 : a12 = some o1)
    (hk2 : hp_kd G o1 = 25)
    (hA3 : hp_A w o1)
    (k : wk_V w mJ26_treeify j 197 [(1, vR a1), (2, vR a2), (3, vR a3), (4, vR a4)] [] (hp_sR G o1 6 a3) r)
    : wk_V w mJ26_treeify j 191 [(1, vR a1), (2, vR a2), (3, vR a3), (4, vR a4), (12, vR a12)] [] G r := by
  refine wk_aload dJ26_treeify_191 rfl ?_
  refine wk_aload_n 3 dJ26_treeify_193 rfl rfl ?_
  refine wk_e2 e1 ?_
  refine wk_putR 25 6 flJ26_42 rfl (Or.inl rfl) hk2 hA3 dJ26_treeify_194 ?_
  exact (wk_sub [(1, vR a1), (2, vR a2), (3, vR a3), (4, vR a4)] ⟨rfl, rfl, rfl, rfl, trivial⟩ k)
theorem blJ26_treeify_197 {w : WD} {j : JB} {r : Nat} {G : GH} {a1 : Option Nat} {a2 : Option Nat} {a3 : Option Nat} {a4 : Option Nat} {d' b' : Nat} {P : Option WV → GH → Prop} {PX : String → Nat → GH → Prop}
    (hC : wk_C w mJ26_balanceInsertion d' b' [vR a2, vR a3] G P PX)
    (hdp : d' + 1 ≤ j.1)
    (hb : b' ≤ r)
    (kr : ∀ v G', P v G' → wk_V w mJ26_treeify j 202 [(1, vR a1), (4, vR a4)] (v.toList ++ []) G' (r - b'))
    (kx : ∀ E q G', PX E q G' → wk_T w mJ26_treeify j 199 [(1, vR a1), (2, vR a2), (3, vR a3), (4, vR a4)] G' (r - b') E q)
    : wk_V w mJ26_treeify j 197 [(1, vR a1), (2, vR a2), (3, vR a3), (4, vR a4)] [] G r := by
  refine wk_aload_n 2 dJ26_treeify_197 rfl rfl ?_
  refine wk_aload_n 3 dJ26_treeify_198 rfl rfl ?_
  exact wk_callS hC rfl q1625 q1626 q149 q1627 mdJ26_balanceInsertion (Nat.le_of_ble_eq_true rfl) rfl rfl (Nat.le_of_ble_eq_true rfl) hdp hb dJ26_treeify_199 (fun v G' h => (wk_sub [(1, vR a1), (4, vR a4)] ⟨rfl, rfl, trivial⟩ (kr v G' h))) kx
theorem blJ26_treeify_202 {w : WD} {j : JB} {r : Nat} {G : GH} {a1 : Option Nat} {a4 : Option Nat} {sa0 : Option Nat}
    (k : wk_V w mJ26_treeify j 209 [(1, vR a1), (2, vR sa0), (4, vR a4)] [] G r)
    : wk_V w mJ26_treeify j 202 [(1, vR a1), (4, vR a4)] [vR sa0] G r := by
  refine wk_astore_n 2 dJ26_treeify_202 rfl (Nat.le_of_ble_eq_true rfl) ?_
  exact wk_goto 209 dJ26_treeify_203 (by decide) k
theorem blJ26_treeify_206 {w : WD} {j : JB} {r : Nat} {G : GH} {a1 : Option Nat} {a2 : Option Nat} {a3 : Option Nat} {a4 : Option Nat} {a5 : Option Nat} {x6 : Int32} {a7 : Option Nat} {a8 : Option Nat}
    (k : wk_V w mJ26_treeify j 64 [(1, vR a1), (2, vR a2), (3, vR a3), (4, vR a4), (5, vR a5), (6, vI x6), (7, vR a7), (8, vR a8)] [] G r)
    : wk_V w mJ26_treeify j 206 [(1, vR a1), (2, vR a2), (3, vR a3), (4, vR a4), (5, vR a5), (6, vI x6), (7, vR a7), (8, vR a8)] [] G r := by
  exact wk_goto 64 dJ26_treeify_206 (by decide) k
theorem blJ26_treeify_209 {w : WD} {j : JB} {r : Nat} {G : GH} {a1 : Option Nat} {a2 : Option Nat} {a4 : Option Nat}
    (k : wk_V w mJ26_treeify j 4 [(1, vR a1), (2, vR a2), (3, vR a4)] [] G r)
    : wk_V w mJ26_treeify j 209 [(1, vR a1), (2, vR a2), (4, vR a4)] [] G r := by
  refine wk_aload dJ26_treeify_209 rfl ?_
  refine wk_astore_n 3 dJ26_treeify_211 rfl (Nat.le_of_ble_eq_true rfl) ?_
  exact wk_goto 4 dJ26_treeify_212 (by decide) (wk_sub [(1, vR a1), (2, vR a2), (3, vR a4)] ⟨rfl, rfl, rfl, trivial⟩ k)
theorem blJ26_treeify_215 {w : WD} {j : JB} {r : Nat} {G : GH} {a1 : Option Nat} {a2 : Option Nat} {d' b' : Nat} {P : Option WV → GH → Prop} {PX : String → Nat → GH → Prop}
    (hC : wk_C w mJ26_moveRootToFront d' b' [vR a1, vR a2] G P PX)
    (hdp : d' + 1 ≤ j.1)
    (hb : b' ≤ r)
    (kr : ∀ v G', P v G' → wk_V w mJ26_treeify j 220 [] (v.toList ++ []) G' (r - b'))
    (kx : ∀ E q G', PX E q G' → wk_T w mJ26_treeify j 217 [(1, vR a1), (2, vR a2)] G' (r - b') E q)
    : wk_V w mJ26_treeify j 215 [(1, vR a1), (2, vR a2)] [] G r := by
  refine wk_aload_n 1 dJ26_treeify_215 rfl rfl ?_
  refine wk_aload_n 2 dJ26_treeify_216 rfl rfl ?_
  exact wk_callS hC rfl q1634 q1635 q149 q1636 mdJ26_moveRootToFront (Nat.le_of_ble_eq_true rfl) rfl rfl (Nat.le_of_ble_eq_true rfl) hdp hb dJ26_treeify_217 (fun v G' h => (wk_sub [] trivial (kr v G' h))) kx
theorem blJ26_treeify_220 {w : WD} {j : JB} {r : Nat} {G : GH}
    (hP : j.2.2.1 none G)
    : wk_V w mJ26_treeify j 220 [] [] G r := by
  exact wk_return rfl dJ26_treeify_220 hP
/-! java/util/HashMap$TreeNode.untreeify(Ljava/util/HashMap;)Ljava/util/HashMap$Node; -/
theorem blJ26_untreeify_0 {w : WD} {j : JB} {r : Nat} {G : GH} {a0 : Nat} {a1 : Option Nat}
    (k : wk_V w mJ26_untreeify j 7 [(1, vR a1), (2, vR none), (3, vR none), (4, vR (some a0))] [] G r)
    : wk_V w mJ26_untreeify j 0 [(0, vR (some a0)), (1, vR a1)] [] G r := by
  refine wk_null dJ26_untreeify_0 ?_
  refine wk_astore_n 2 dJ26_untreeify_1 rfl (Nat.le_of_ble_eq_true rfl) ?_
  refine wk_null dJ26_untreeify_2 ?_
  refine wk_astore_n 3 dJ26_untreeify_3 rfl (Nat.le_of_ble_eq_true rfl) ?_
  refine wk_aload_n 0 dJ26_untreeify_4 rfl rfl ?_
  refine wk_astore dJ26_untreeify_5 (Nat.le_of_ble_eq_true rfl) ?_
  exact (wk_sub [(1, vR a1), (2, vR none), (3, vR none), (4, vR (some a0))] ⟨rfl, rfl, rfl, rfl, trivial⟩ k)
theorem blJ26_untreeify_7 {w : WD} {j : JB} {r : Nat} {G : GH} {a1 : Option Nat} {a2 : Option Nat} {a3 : Option Nat} {a4 : Option Nat}
    (kt : a4 = none → wk_V w mJ26_untreeify j 50 [(2, vR a2)] [] G r)
    (kf : ∀ o9, a4 = some o9 → wk_V w mJ26_untreeify j 12 [(1, vR a1), (2, vR a2), (3, vR a3), (4, vR a4)] [] G r)
    : wk_V w mJ26_untreeify j 7 [(1, vR a1), (2, vR a2), (3, vR a3), (4, vR a4)] [] G r := by
  refine wk_aload dJ26_untreeify_7 rfl ?_
  exact wk_ifnull 50 dJ26_untreeify_9 (by decide) (fun h => (wk_sub [(2, vR a2)] ⟨rfl, trivial⟩ (kt h))) (fun o9 h => (kf o9 h))
theorem blJ26_untreeify_12 {w : WD} {j : JB} {r : Nat} {G : GH} {a1 : Option Nat} {a2 : Option Nat} {a3 : Option Nat} {a4 : Option Nat} {o1 : Nat} {d' b' : Nat} {P : Option WV → GH → Prop} {PX : String → Nat → GH → Prop}
    (e1 : a1 = some o1)
    (hkr : hp_kd G o1 = 23)
    (hC : wk_C w mJ7_replacementNode d' b' [vR (some o1), vR a4, vR none] G P PX)
    (hdp : d' + 1 ≤ j.1)
    (hb : b' ≤ r)
    (kr : ∀ v G', P v G' → wk_V w mJ26_untreeify j 19 [(1, vR a1), (2, vR a2), (3, vR a3), (4, vR a4)] (v.toList ++ []) G' (r - b'))
    (kx : ∀ E q G', PX E q G' → wk_T w mJ26_untreeify j 16 [(1, vR a1), (2, vR a2), (3, vR a3), (4, vR a4)] G' (r - b') E q)
    : wk_V w mJ26_untreeify j 12 [(1, vR a1), (2, vR a2), (3, vR a3), (4, vR a4)] [] G r := by
  refine wk_aload_n 1 dJ26_untreeify_12 rfl rfl ?_
  refine wk_aload dJ26_untreeify_13 rfl ?_
  refine wk_null dJ26_untreeify_15 ?_
  refine wk_eAt 2 e1 rfl ?_
  exact wk_callV hC rfl q1587 q1588 q1589 q119 q1590 mdJ7_replacementNode (Nat.le_of_ble_eq_true rfl) ⟨by show hp_kd G o1 ≠ 0; rw [hkr]; decide, by show hp_kd G o1 < 28; rw [hkr]; decide, by show hp_C (hp_kd G o1) = _; rw [hkr]; rfl⟩ rfl rfl (Nat.le_of_ble_eq_true rfl) hdp hb dJ26_untreeify_16 kr kx
theorem blJ26_untreeify_19 {w : WD} {j : JB} {r : Nat} {G : GH} {a1 : Option Nat} {a2 : Option Nat} {a3 : Option Nat} {a4 : Option Nat} {sa0 : Option Nat}
    (kt : ∀ o9, a3 = some o9 → wk_V w mJ26_untreeify j 31 [(1, vR a1), (2, vR a2), (3, vR a3), (4, vR a4), (5, vR sa0)] [] G r)
    (kf : a3 = none → wk_V w mJ26_untreeify j 25 [(1, vR a1), (4, vR a4), (5, vR sa0)] [] G r)
    : wk_V w mJ26_untreeify j 19 [(1, vR a1), (2, vR a2), (3, vR a3), (4, vR a4)] [vR sa0] G r := by
  refine wk_astore dJ26_untreeify_19 (Nat.le_of_ble_eq_true rfl) ?_
  refine wk_aload_n 3 dJ26_untreeify_21 rfl rfl ?_
  exact wk_ifnonnull 31 dJ26_untreeify_22 (by decide) (fun o9 h => (kt o9 h)) (fun h => (wk_sub [(1, vR a1), (4, vR a4), (5, vR sa0)] ⟨rfl, rfl, rfl, trivial⟩ (kf h)))
theorem blJ26_untreeify_25 {w : WD} {j : JB} {r : Nat} {G : GH} {a1 : Option Nat} {a4 : Option Nat} {a5 : Option Nat}
    (k : wk_V w mJ26_untreeify j 37 [(1, vR a1), (2, vR a5), (4, vR a4), (5, vR a5)] [] G r)
    : wk_V w mJ26_untreeify j 25 [(1, vR a1), (4, vR a4), (5, vR a5)] [] G r := by
  refine wk_aload dJ26_untreeify_25 rfl ?_
  refine wk_astore_n 2 dJ26_untreeify_27 rfl (Nat.le_of_ble_eq_true rfl) ?_
  exact wk_goto 37 dJ26_untreeify_28 (by decide) k
theorem blJ26_untreeify_31 {w : WD} {j : JB} {r : Nat} {G : GH} {a1 : Option Nat} {a2 : Option Nat} {a3 : Option Nat} {a4 : Option Nat} {a5 : Option Nat} {o1 : Nat}
    (e1 : a3 = some o1)
    (hk2 : 24 ≤ hp_kd G o1 ∧ hp_kd G o1 ≤ 25)
    (hA3 : hp_A w o1)
    (k : wk_V w mJ26_untreeify j 37 [(1, vR a1), (2, vR a2), (4, vR a4), (5, vR a5)] [] (hp_sR G o1 3 a5) r)
    : wk_V w mJ26_untreeify j 31 [(1, vR a1), (2, vR a2), (3, vR a3), (4, vR a4), (5, vR a5)] [] G r := by
  refine wk_aload_n 3 dJ26_untreeify_31 rfl rfl ?_
  refine wk_aload dJ26_untreeify_32 rfl ?_
  refine wk_e2 e1 ?_
  refine wk_putR (hp_kd G o1) 3 (flJ26_112 _ hk2.1 hk2.2) (flJ26_112_t _ hk2.1 hk2.2).1 (Or.inl (flJ26_112_t _ hk2.1 hk2.2).2.1) rfl hA3 dJ26_untreeify_34 ?_
  exact (wk_sub [(1, vR a1), (2, vR a2), (4, vR a4), (5, vR a5)] ⟨rfl, rfl, rfl, rfl, trivial⟩ k)
theorem blJ26_untreeify_37 {w : WD} {j : JB} {r : Nat} {G : GH} {a1 : Option Nat} {a2 : Option Nat} {a4 : Option Nat} {a5 : Option Nat} {o1 : Nat}
    (e1 : a4 = some o1)
    (hk2 : 24 ≤ hp_kd G o1 ∧ hp_kd G o1 ≤ 25)
    (k : wk_V w mJ26_untreeify j 7 [(1, vR a1), (2, vR a2), (3, vR a5), (4, vR (hp_r G o1 3))] [] G r)
    : wk_V w mJ26_untreeify j 37 [(1, vR a1), (2, vR a2), (4, vR a4), (5, vR a5)] [] G r := by
  refine wk_aload dJ26_untreeify_37 rfl ?_
  refine wk_astore_n 3 dJ26_untreeify_39 rfl (Nat.le_of_ble_eq_true rfl) ?_
  refine wk_aload dJ26_untreeify_40 rfl ?_
  refine wk_e e1 ?_
  refine wk_getR (hp_kd G o1) 3 (flJ26_112 _ hk2.1 hk2.2) (flJ26_112_t _ hk2.1 hk2.2).1 rfl dJ26_untreeify_42 ?_
  refine wk_astore dJ26_untreeify_45 (Nat.le_of_ble_eq_true rfl) ?_
  exact wk_goto 7 dJ26_untreeify_47 (by decide) (wk_sub [(1, vR a1), (2, vR a2), (3, vR a5), (4, vR (hp_r G o1 3))] ⟨rfl, rfl, rfl, rfl, trivial⟩ k)
theorem blJ26_untreeify_50 {w : WD} {j : JB} {r : Nat} {G : GH} {a2 : Option Nat}
    (hP : j.2.2.1 (some (vR a2)) G)
    : wk_V w mJ26_untreeify j 50 [(2, vR a2)] [] G r := by
  refine wk_aload_n 2 dJ26_untreeify_50 rfl rfl ?_
  exact wk_areturn rfl (Or.inl ⟨_, rfl⟩) dJ26_untreeify_51 hP
/-! java/lang/Object.equals(Ljava/lang/Object;)Z -/
theorem blJ28_equals_0 {w : WD} {j : JB} {r : Nat} {G : GH} {a0 : Nat} {a1 : Option Nat}
    (kt : ¬ ((some a0) = a1) → wk_V w mJ28_equals j 9 [] [] G r)
    (kf : (some a0) = a1 → wk_V w mJ28_equals j 5 [] [] G r)
    : wk_V w mJ28_equals j 0 [(0, vR (some a0)), (1, vR a1)] [] G r := by
  refine wk_aload_n 0 dJ28_equals_0 rfl rfl ?_
  refine wk_aload_n 1 dJ28_equals_1 rfl rfl ?_
  exact wk_acmp_ne 9 dJ28_equals_2 (by decide) (fun h => (wk_sub [] trivial (kt h))) (fun h => (wk_sub [] trivial (kf h)))
theorem blJ28_equals_5 {w : WD} {j : JB} {r : Nat} {G : GH}
    (k : wk_V w mJ28_equals j 10 [] [vI (1 : Int32)] G r)
    : wk_V w mJ28_equals j 5 [] [] G r := by
  refine wk_iconst (1 : Int32) dJ28_equals_5 (by decide) ?_
  exact wk_goto 10 dJ28_equals_6 (by decide) k
theorem blJ28_equals_9 {w : WD} {j : JB} {r : Nat} {G : GH}
    (k : wk_V w mJ28_equals j 10 [] [vI (0 : Int32)] G r)
    : wk_V w mJ28_equals j 9 [] [] G r := by
  refine wk_iconst (0 : Int32) dJ28_equals_9 (by decide) ?_
  exact k
theorem blJ28_equals_10 {w : WD} {j : JB} {r : Nat} {G : GH} {s0 : Int32}
    (hn : narrow .boolean (.int s0) = .int s0)
    (hP : j.2.2.1 (some (vI s0)) G)
    : wk_V w mJ28_equals j 10 [] [vI s0] G r := by
  exact wk_ireturn rfl hn dJ28_equals_10 hP
/-! java/lang/Object.<init>()V -/
theorem blJ28_init_0 {w : WD} {j : JB} {r : Nat} {G : GH}
    (hP : j.2.2.1 none G)
    : wk_V w mJ28_init j 0 [] [] G r := by
  exact wk_return rfl dJ28_init_0 hP
theorem blX1_feed_12 {w : WD} {j : JB} {r : Nat} {G : GH}
    (hdp : 10 ≤ j.1)
    (hr : 1 ≤ r)
    (hP : ∀ q x y, j.2.2.2.1 "java/lang/IllegalStateException" q (hp_cn G x y))
    : wk_V w mX1_feed j 12 [] [] G r := by
  exact wk_throw0 ["java/lang/RuntimeException", "java/lang/Exception"] ⟨by decide +kernel, by decide +kernel, by decide⟩ thX1_131_133 rfl (by decide) hdp hr dX1_feed_12 dX1_feed_15 dX1_feed_16 dX1_feed_19 hP
theorem blX1_end_12 {w : WD} {j : JB} {r : Nat} {G : GH}
    (hdp : 10 ≤ j.1)
    (hr : 1 ≤ r)
    (hP : ∀ q x y, j.2.2.2.1 "java/lang/IllegalArgumentException" q (hp_cn G x y))
    : wk_V w mX1_end j 12 [] [] G r := by
  exact wk_throw0 ["java/lang/RuntimeException", "java/lang/Exception"] ⟨by decide +kernel, by decide +kernel, by decide⟩ thX1_138_140 rfl (by decide) hdp hr dX1_end_12 dX1_end_15 dX1_end_16 dX1_end_19 hP
theorem blX1_input_55 {w : WD} {j : JB} {r : Nat} {G : GH}
    (hdp : 10 ≤ j.1)
    (hr : 1 ≤ r)
    (hP : ∀ q x y, j.2.2.2.1 "java/lang/IllegalArgumentException" q (hp_cn G x y))
    : wk_V w mX1_input j 55 [] [] G r := by
  exact wk_throw0 ["java/lang/RuntimeException", "java/lang/Exception"] ⟨by decide +kernel, by decide +kernel, by decide⟩ thX1_138_140 rfl (by decide) hdp hr dX1_input_55 dX1_input_58 dX1_input_59 dX1_input_62 hP
theorem blX1_known_16 {w : WD} {j : JB} {r : Nat} {G : GH}
    (hdp : 10 ≤ j.1)
    (hr : 1 ≤ r)
    (hP : ∀ q x y, j.2.2.2.1 "java/util/NoSuchElementException" q (hp_cn G x y))
    : wk_V w mX1_known j 16 [] [] G r := by
  exact wk_throw0 ["java/lang/RuntimeException", "java/lang/Exception"] ⟨by decide +kernel, by decide +kernel, by decide⟩ thX1_313_315 rfl (by decide) hdp hr dX1_known_16 dX1_known_19 dX1_known_20 dX1_known_23 hP
theorem blX1_tick_12 {w : WD} {j : JB} {r : Nat} {G : GH}
    (hdp : 10 ≤ j.1)
    (hr : 1 ≤ r)
    (hP : ∀ q x y, j.2.2.2.1 "java/lang/IllegalArgumentException" q (hp_cn G x y))
    : wk_V w mX1_tick j 12 [] [] G r := by
  exact wk_throw0 ["java/lang/RuntimeException", "java/lang/Exception"] ⟨by decide +kernel, by decide +kernel, by decide⟩ thX1_138_140 rfl (by decide) hdp hr dX1_tick_12 dX1_tick_15 dX1_tick_16 dX1_tick_19 hP
theorem blX1_tick_27 {w : WD} {j : JB} {r : Nat} {G : GH}
    (hdp : 10 ≤ j.1)
    (hr : 1 ≤ r)
    (hP : ∀ q x y, j.2.2.2.1 "java/lang/IllegalStateException" q (hp_cn G x y))
    : wk_V w mX1_tick j 27 [] [] G r := by
  exact wk_throw0 ["java/lang/RuntimeException", "java/lang/Exception"] ⟨by decide +kernel, by decide +kernel, by decide⟩ thX1_131_133 rfl (by decide) hdp hr dX1_tick_27 dX1_tick_30 dX1_tick_31 dX1_tick_34 hP
theorem blX1_value_36 {w : WD} {j : JB} {r : Nat} {G : GH}
    (hdp : 10 ≤ j.1)
    (hr : 1 ≤ r)
    (hP : ∀ q x y, j.2.2.2.1 "java/lang/IllegalStateException" q (hp_cn G x y))
    : wk_V w mX1_value j 36 [] [] G r := by
  exact wk_throw0 ["java/lang/RuntimeException", "java/lang/Exception"] ⟨by decide +kernel, by decide +kernel, by decide⟩ thX1_131_133 rfl (by decide) hdp hr dX1_value_36 dX1_value_39 dX1_value_40 dX1_value_43 hP
theorem blX1_about_144 {w : WD} {j : JB} {r : Nat} {G : GH}
    (hdp : 10 ≤ j.1)
    (hr : 1 ≤ r)
    (hP : ∀ q x y, j.2.2.2.1 "java/lang/IllegalArgumentException" q (hp_cn G x y))
    : wk_V w mX1_about j 144 [] [] G r := by
  exact wk_throw0 ["java/lang/RuntimeException", "java/lang/Exception"] ⟨by decide +kernel, by decide +kernel, by decide⟩ thX1_138_140 rfl (by decide) hdp hr dX1_about_144 dX1_about_147 dX1_about_148 dX1_about_151 hP
theorem blX1_restart_7 {w : WD} {j : JB} {r : Nat} {G : GH}
    (hdp : 10 ≤ j.1)
    (hr : 1 ≤ r)
    (hP : ∀ q x y, j.2.2.2.1 "java/lang/IllegalStateException" q (hp_cn G x y))
    : wk_V w mX1_restart j 7 [] [] G r := by
  exact wk_throw0 ["java/lang/RuntimeException", "java/lang/Exception"] ⟨by decide +kernel, by decide +kernel, by decide⟩ thX1_131_133 rfl (by decide) hdp hr dX1_restart_7 dX1_restart_10 dX1_restart_11 dX1_restart_14 hP
theorem blX1_keep_17 {w : WD} {j : JB} {r : Nat} {G : GH}
    (hdp : 10 ≤ j.1)
    (hr : 1 ≤ r)
    (hP : ∀ q x y, j.2.2.2.1 "java/lang/IllegalStateException" q (hp_cn G x y))
    : wk_V w mX1_keep j 17 [] [] G r := by
  exact wk_throw0 ["java/lang/RuntimeException", "java/lang/Exception"] ⟨by decide +kernel, by decide +kernel, by decide⟩ thX1_131_133 rfl (by decide) hdp hr dX1_keep_17 dX1_keep_20 dX1_keep_21 dX1_keep_24 hP
theorem blX1_back_15 {w : WD} {j : JB} {r : Nat} {G : GH}
    (hdp : 10 ≤ j.1)
    (hr : 1 ≤ r)
    (hP : ∀ q x y, j.2.2.2.1 "java/lang/IllegalStateException" q (hp_cn G x y))
    : wk_V w mX1_back j 15 [] [] G r := by
  exact wk_throw0 ["java/lang/RuntimeException", "java/lang/Exception"] ⟨by decide +kernel, by decide +kernel, by decide⟩ thX1_131_133 rfl (by decide) hdp hr dX1_back_15 dX1_back_18 dX1_back_19 dX1_back_22 hP
theorem blX6_instant_250_I {w : WD} {j : JB} {r : Nat} {G : GH} {a0 : Nat} {o4 : Nat} {o5 : Nat}
    (hk1 : hp_kd G a0 = 1)
    (e4 : (hp_r G a0 76) = some o4)
    (e5 : (hp_r G a0 75) = some o5)
    (hA6 : hp_A w o4)
    (hs1 : ¬ (0 : Int32) < 0)
    (hs3 : ¬ (hp_i G a0 52) < 0)
    (hs4 : (0 : Int32).toNatClampNeg + (hp_i G a0 52).toNatClampNeg ≤ hp_ln G o5)
    (hs5 : (0 : Int32).toNatClampNeg + (hp_i G a0 52).toNatClampNeg ≤ hp_ln G o4)
    (hdp : 1 ≤ j.1)
    (hk9 : 28 ≤ hp_kd G o4 ∧ hp_kd G o4 < 31)
    (hk8 : hp_kd G o5 = hp_kd G o4)
    (hf : ∀ i, i < (hp_i G a0 52).toNatClampNeg → fits (hp_at (hp_kd G o4)) (.int (hp_i G o5 ((0 : Int32).toNatClampNeg + i))) = true)
    (k : wk_V w mX6_instant j 267 [(0, vR (some a0))] [] (hp_setI G o4 (va_cpy (hp_i G o5) (hp_i G o4) (0 : Int32).toNatClampNeg (0 : Int32).toNatClampNeg (hp_i G a0 52).toNatClampNeg)) r)
    : wk_V w mX6_instant j 250 [(0, vR (some a0))] [] G r := by
  refine wk_aload_n 0 dX6_instant_250 rfl rfl ?_
  refine wk_getR 1 75 flX6_242 rfl hk1 dX6_instant_251 ?_
  refine wk_iconst (0 : Int32) dX6_instant_254 (by decide) ?_
  refine wk_aload_n 0 dX6_instant_255 rfl rfl ?_
  refine wk_getR 1 76 flX6_245 rfl hk1 dX6_instant_256 ?_
  refine wk_iconst (0 : Int32) dX6_instant_259 (by decide) ?_
  refine wk_aload_n 0 dX6_instant_260 rfl rfl ?_
  refine wk_getI 1 52 flX6_172 rfl hk1 dX6_instant_261 ?_
  refine wk_eAt 2 e4 rfl ?_
  refine wk_eAt 4 e5 rfl ?_
  exact wk_acopyI ⟨q3171, q617, q616, q134⟩ hA6 hk9 hk8 hs1 hs1 hs3 hs4 hs5 hf (Nat.le_of_ble_eq_true rfl) hdp dX6_instant_264 k
theorem blX6_instant_250_R {w : WD} {j : JB} {r : Nat} {G : GH} {a0 : Nat} {o4 : Nat} {o5 : Nat} {T7 : String}
    (hk1 : hp_kd G a0 = 1)
    (e4 : (hp_r G a0 76) = some o4)
    (e5 : (hp_r G a0 75) = some o5)
    (hA6 : hp_A w o4)
    (hs1 : ¬ (0 : Int32) < 0)
    (hs3 : ¬ (hp_i G a0 52) < 0)
    (hs4 : (0 : Int32).toNatClampNeg + (hp_i G a0 52).toNatClampNeg ≤ hp_ln G o5)
    (hs5 : (0 : Int32).toNatClampNeg + (hp_i G a0 52).toNatClampNeg ≤ hp_ln G o4)
    (hdp : 1 ≤ j.1)
    (hk9 : 32 ≤ hp_kd G o4)
    (hk8 : 32 ≤ hp_kd G o5)
    (hT : hp_at (hp_kd G o4) = .object T7)
    (hf : ∀ i, i < (hp_i G a0 52).toNatClampNeg → ∀ y, hp_r G o5 ((0 : Int32).toNatClampNeg + i) = some y → hp_kd G y ≠ 0 ∧ hp_kd G y < 28 ∧ hp_sub (hp_kd G y) T7)
    (k : wk_V w mX6_instant j 267 [(0, vR (some a0))] [] (hp_setR G o4 (va_cpy (hp_r G o5) (hp_r G o4) (0 : Int32).toNatClampNeg (0 : Int32).toNatClampNeg (hp_i G a0 52).toNatClampNeg)) r)
    : wk_V w mX6_instant j 250 [(0, vR (some a0))] [] G r := by
  refine wk_aload_n 0 dX6_instant_250 rfl rfl ?_
  refine wk_getR 1 75 flX6_242 rfl hk1 dX6_instant_251 ?_
  refine wk_iconst (0 : Int32) dX6_instant_254 (by decide) ?_
  refine wk_aload_n 0 dX6_instant_255 rfl rfl ?_
  refine wk_getR 1 76 flX6_245 rfl hk1 dX6_instant_256 ?_
  refine wk_iconst (0 : Int32) dX6_instant_259 (by decide) ?_
  refine wk_aload_n 0 dX6_instant_260 rfl rfl ?_
  refine wk_getI 1 52 flX6_172 rfl hk1 dX6_instant_261 ?_
  refine wk_eAt 2 e4 rfl ?_
  refine wk_eAt 4 e5 rfl ?_
  exact wk_acopyR ⟨q3171, q617, q616, q134⟩ hA6 hk9 hk8 hT hs1 hs1 hs3 hs4 hs5 hf (Nat.le_of_ble_eq_true rfl) hdp dX6_instant_264 k
theorem blX6_instant_288_I {w : WD} {j : JB} {r : Nat} {G : GH} {a0 : Nat} {o4 : Nat} {o5 : Nat}
    (hk1 : hp_kd G a0 = 1)
    (e4 : (hp_r G a0 75) = some o4)
    (e5 : (hp_r G a0 76) = some o5)
    (hA6 : hp_A w o4)
    (hs1 : ¬ (0 : Int32) < 0)
    (hs3 : ¬ (hp_i G a0 52) < 0)
    (hs4 : (0 : Int32).toNatClampNeg + (hp_i G a0 52).toNatClampNeg ≤ hp_ln G o5)
    (hs5 : (0 : Int32).toNatClampNeg + (hp_i G a0 52).toNatClampNeg ≤ hp_ln G o4)
    (hdp : 1 ≤ j.1)
    (hk9 : 28 ≤ hp_kd G o4 ∧ hp_kd G o4 < 31)
    (hk8 : hp_kd G o5 = hp_kd G o4)
    (hf : ∀ i, i < (hp_i G a0 52).toNatClampNeg → fits (hp_at (hp_kd G o4)) (.int (hp_i G o5 ((0 : Int32).toNatClampNeg + i))) = true)
    (k : wk_V w mX6_instant j 305 [(0, vR (some a0))] [] (hp_setI G o4 (va_cpy (hp_i G o5) (hp_i G o4) (0 : Int32).toNatClampNeg (0 : Int32).toNatClampNeg (hp_i G a0 52).toNatClampNeg)) r)
    : wk_V w mX6_instant j 288 [(0, vR (some a0))] [] G r := by
  refine wk_aload_n 0 dX6_instant_288 rfl rfl ?_
  refine wk_getR 1 76 flX6_245 rfl hk1 dX6_instant_289 ?_
  refine wk_iconst (0 : Int32) dX6_instant_292 (by decide) ?_
  refine wk_aload_n 0 dX6_instant_293 rfl rfl ?_
  refine wk_getR 1 75 flX6_242 rfl hk1 dX6_instant_294 ?_
  refine wk_iconst (0 : Int32) dX6_instant_297 (by decide) ?_
  refine wk_aload_n 0 dX6_instant_298 rfl rfl ?_
  refine wk_getI 1 52 flX6_172 rfl hk1 dX6_instant_299 ?_
  refine wk_eAt 2 e4 rfl ?_
  refine wk_eAt 4 e5 rfl ?_
  exact wk_acopyI ⟨q3171, q617, q616, q134⟩ hA6 hk9 hk8 hs1 hs1 hs3 hs4 hs5 hf (Nat.le_of_ble_eq_true rfl) hdp dX6_instant_302 k
theorem blX6_instant_288_R {w : WD} {j : JB} {r : Nat} {G : GH} {a0 : Nat} {o4 : Nat} {o5 : Nat} {T7 : String}
    (hk1 : hp_kd G a0 = 1)
    (e4 : (hp_r G a0 75) = some o4)
    (e5 : (hp_r G a0 76) = some o5)
    (hA6 : hp_A w o4)
    (hs1 : ¬ (0 : Int32) < 0)
    (hs3 : ¬ (hp_i G a0 52) < 0)
    (hs4 : (0 : Int32).toNatClampNeg + (hp_i G a0 52).toNatClampNeg ≤ hp_ln G o5)
    (hs5 : (0 : Int32).toNatClampNeg + (hp_i G a0 52).toNatClampNeg ≤ hp_ln G o4)
    (hdp : 1 ≤ j.1)
    (hk9 : 32 ≤ hp_kd G o4)
    (hk8 : 32 ≤ hp_kd G o5)
    (hT : hp_at (hp_kd G o4) = .object T7)
    (hf : ∀ i, i < (hp_i G a0 52).toNatClampNeg → ∀ y, hp_r G o5 ((0 : Int32).toNatClampNeg + i) = some y → hp_kd G y ≠ 0 ∧ hp_kd G y < 28 ∧ hp_sub (hp_kd G y) T7)
    (k : wk_V w mX6_instant j 305 [(0, vR (some a0))] [] (hp_setR G o4 (va_cpy (hp_r G o5) (hp_r G o4) (0 : Int32).toNatClampNeg (0 : Int32).toNatClampNeg (hp_i G a0 52).toNatClampNeg)) r)
    : wk_V w mX6_instant j 288 [(0, vR (some a0))] [] G r := by
  refine wk_aload_n 0 dX6_instant_288 rfl rfl ?_
  refine wk_getR 1 76 flX6_245 rfl hk1 dX6_instant_289 ?_
  refine wk_iconst (0 : Int32) dX6_instant_292 (by decide) ?_
  refine wk_aload_n 0 dX6_instant_293 rfl rfl ?_
  refine wk_getR 1 75 flX6_242 rfl hk1 dX6_instant_294 ?_
  refine wk_iconst (0 : Int32) dX6_instant_297 (by decide) ?_
  refine wk_aload_n 0 dX6_instant_298 rfl rfl ?_
  refine wk_getI 1 52 flX6_172 rfl hk1 dX6_instant_299 ?_
  refine wk_eAt 2 e4 rfl ?_
  refine wk_eAt 4 e5 rfl ?_
  exact wk_acopyR ⟨q3171, q617, q616, q134⟩ hA6 hk9 hk8 hT hs1 hs1 hs3 hs4 hs5 hf (Nat.le_of_ble_eq_true rfl) hdp dX6_instant_302 k
theorem blX6_keep_46_I {w : WD} {j : JB} {r : Nat} {G : GH} {a0 : Nat} {o4 : Nat} {o5 : Nat}
    (hk1 : hp_kd G a0 = 1)
    (e4 : (hp_r G a0 79) = some o4)
    (e5 : (hp_r G a0 75) = some o5)
    (hA6 : hp_A w o4)
    (hs1 : ¬ (0 : Int32) < 0)
    (hs3 : ¬ (hp_i G a0 52) < 0)
    (hs4 : (0 : Int32).toNatClampNeg + (hp_i G a0 52).toNatClampNeg ≤ hp_ln G o5)
    (hs5 : (0 : Int32).toNatClampNeg + (hp_i G a0 52).toNatClampNeg ≤ hp_ln G o4)
    (hdp : 1 ≤ j.1)
    (hk9 : 28 ≤ hp_kd G o4 ∧ hp_kd G o4 < 31)
    (hk8 : hp_kd G o5 = hp_kd G o4)
    (hf : ∀ i, i < (hp_i G a0 52).toNatClampNeg → fits (hp_at (hp_kd G o4)) (.int (hp_i G o5 ((0 : Int32).toNatClampNeg + i))) = true)
    (k : wk_V w mX6_keep j 63 [(0, vR (some a0))] [] (hp_setI G o4 (va_cpy (hp_i G o5) (hp_i G o4) (0 : Int32).toNatClampNeg (0 : Int32).toNatClampNeg (hp_i G a0 52).toNatClampNeg)) r)
    : wk_V w mX6_keep j 46 [(0, vR (some a0))] [] G r := by
  refine wk_aload_n 0 dX6_keep_46 rfl rfl ?_
  refine wk_getR 1 75 flX6_242 rfl hk1 dX6_keep_47 ?_
  refine wk_iconst (0 : Int32) dX6_keep_50 (by decide) ?_
  refine wk_aload_n 0 dX6_keep_51 rfl rfl ?_
  refine wk_getR 1 79 flX6_254 rfl hk1 dX6_keep_52 ?_
  refine wk_iconst (0 : Int32) dX6_keep_55 (by decide) ?_
  refine wk_aload_n 0 dX6_keep_56 rfl rfl ?_
  refine wk_getI 1 52 flX6_172 rfl hk1 dX6_keep_57 ?_
  refine wk_eAt 2 e4 rfl ?_
  refine wk_eAt 4 e5 rfl ?_
  exact wk_acopyI ⟨q3171, q617, q616, q134⟩ hA6 hk9 hk8 hs1 hs1 hs3 hs4 hs5 hf (Nat.le_of_ble_eq_true rfl) hdp dX6_keep_60 k
theorem blX6_keep_46_R {w : WD} {j : JB} {r : Nat} {G : GH} {a0 : Nat} {o4 : Nat} {o5 : Nat} {T7 : String}
    (hk1 : hp_kd G a0 = 1)
    (e4 : (hp_r G a0 79) = some o4)
    (e5 : (hp_r G a0 75) = some o5)
    (hA6 : hp_A w o4)
    (hs1 : ¬ (0 : Int32) < 0)
    (hs3 : ¬ (hp_i G a0 52) < 0)
    (hs4 : (0 : Int32).toNatClampNeg + (hp_i G a0 52).toNatClampNeg ≤ hp_ln G o5)
    (hs5 : (0 : Int32).toNatClampNeg + (hp_i G a0 52).toNatClampNeg ≤ hp_ln G o4)
    (hdp : 1 ≤ j.1)
    (hk9 : 32 ≤ hp_kd G o4)
    (hk8 : 32 ≤ hp_kd G o5)
    (hT : hp_at (hp_kd G o4) = .object T7)
    (hf : ∀ i, i < (hp_i G a0 52).toNatClampNeg → ∀ y, hp_r G o5 ((0 : Int32).toNatClampNeg + i) = some y → hp_kd G y ≠ 0 ∧ hp_kd G y < 28 ∧ hp_sub (hp_kd G y) T7)
    (k : wk_V w mX6_keep j 63 [(0, vR (some a0))] [] (hp_setR G o4 (va_cpy (hp_r G o5) (hp_r G o4) (0 : Int32).toNatClampNeg (0 : Int32).toNatClampNeg (hp_i G a0 52).toNatClampNeg)) r)
    : wk_V w mX6_keep j 46 [(0, vR (some a0))] [] G r := by
  refine wk_aload_n 0 dX6_keep_46 rfl rfl ?_
  refine wk_getR 1 75 flX6_242 rfl hk1 dX6_keep_47 ?_
  refine wk_iconst (0 : Int32) dX6_keep_50 (by decide) ?_
  refine wk_aload_n 0 dX6_keep_51 rfl rfl ?_
  refine wk_getR 1 79 flX6_254 rfl hk1 dX6_keep_52 ?_
  refine wk_iconst (0 : Int32) dX6_keep_55 (by decide) ?_
  refine wk_aload_n 0 dX6_keep_56 rfl rfl ?_
  refine wk_getI 1 52 flX6_172 rfl hk1 dX6_keep_57 ?_
  refine wk_eAt 2 e4 rfl ?_
  refine wk_eAt 4 e5 rfl ?_
  exact wk_acopyR ⟨q3171, q617, q616, q134⟩ hA6 hk9 hk8 hT hs1 hs1 hs3 hs4 hs5 hf (Nat.le_of_ble_eq_true rfl) hdp dX6_keep_60 k
theorem blX6_keep_63_I {w : WD} {j : JB} {r : Nat} {G : GH} {a0 : Nat} {o4 : Nat} {o5 : Nat}
    (hk1 : hp_kd G a0 = 1)
    (e4 : (hp_r G a0 80) = some o4)
    (e5 : (hp_r G a0 74) = some o5)
    (hA6 : hp_A w o4)
    (hs1 : ¬ (0 : Int32) < 0)
    (hs3 : ¬ (hp_i G a0 51) < 0)
    (hs4 : (0 : Int32).toNatClampNeg + (hp_i G a0 51).toNatClampNeg ≤ hp_ln G o5)
    (hs5 : (0 : Int32).toNatClampNeg + (hp_i G a0 51).toNatClampNeg ≤ hp_ln G o4)
    (hdp : 1 ≤ j.1)
    (hk9 : 28 ≤ hp_kd G o4 ∧ hp_kd G o4 < 31)
    (hk8 : hp_kd G o5 = hp_kd G o4)
    (hf : ∀ i, i < (hp_i G a0 51).toNatClampNeg → fits (hp_at (hp_kd G o4)) (.int (hp_i G o5 ((0 : Int32).toNatClampNeg + i))) = true)
    (k : wk_V w mX6_keep j 80 [(0, vR (some a0))] [] (hp_setI G o4 (va_cpy (hp_i G o5) (hp_i G o4) (0 : Int32).toNatClampNeg (0 : Int32).toNatClampNeg (hp_i G a0 51).toNatClampNeg)) r)
    : wk_V w mX6_keep j 63 [(0, vR (some a0))] [] G r := by
  refine wk_aload_n 0 dX6_keep_63 rfl rfl ?_
  refine wk_getR 1 74 flX6_239 rfl hk1 dX6_keep_64 ?_
  refine wk_iconst (0 : Int32) dX6_keep_67 (by decide) ?_
  refine wk_aload_n 0 dX6_keep_68 rfl rfl ?_
  refine wk_getR 1 80 flX6_257 rfl hk1 dX6_keep_69 ?_
  refine wk_iconst (0 : Int32) dX6_keep_72 (by decide) ?_
  refine wk_aload_n 0 dX6_keep_73 rfl rfl ?_
  refine wk_getI 1 51 flX6_169 rfl hk1 dX6_keep_74 ?_
  refine wk_eAt 2 e4 rfl ?_
  refine wk_eAt 4 e5 rfl ?_
  exact wk_acopyI ⟨q3171, q617, q616, q134⟩ hA6 hk9 hk8 hs1 hs1 hs3 hs4 hs5 hf (Nat.le_of_ble_eq_true rfl) hdp dX6_keep_77 k
theorem blX6_keep_63_R {w : WD} {j : JB} {r : Nat} {G : GH} {a0 : Nat} {o4 : Nat} {o5 : Nat} {T7 : String}
    (hk1 : hp_kd G a0 = 1)
    (e4 : (hp_r G a0 80) = some o4)
    (e5 : (hp_r G a0 74) = some o5)
    (hA6 : hp_A w o4)
    (hs1 : ¬ (0 : Int32) < 0)
    (hs3 : ¬ (hp_i G a0 51) < 0)
    (hs4 : (0 : Int32).toNatClampNeg + (hp_i G a0 51).toNatClampNeg ≤ hp_ln G o5)
    (hs5 : (0 : Int32).toNatClampNeg + (hp_i G a0 51).toNatClampNeg ≤ hp_ln G o4)
    (hdp : 1 ≤ j.1)
    (hk9 : 32 ≤ hp_kd G o4)
    (hk8 : 32 ≤ hp_kd G o5)
    (hT : hp_at (hp_kd G o4) = .object T7)
    (hf : ∀ i, i < (hp_i G a0 51).toNatClampNeg → ∀ y, hp_r G o5 ((0 : Int32).toNatClampNeg + i) = some y → hp_kd G y ≠ 0 ∧ hp_kd G y < 28 ∧ hp_sub (hp_kd G y) T7)
    (k : wk_V w mX6_keep j 80 [(0, vR (some a0))] [] (hp_setR G o4 (va_cpy (hp_r G o5) (hp_r G o4) (0 : Int32).toNatClampNeg (0 : Int32).toNatClampNeg (hp_i G a0 51).toNatClampNeg)) r)
    : wk_V w mX6_keep j 63 [(0, vR (some a0))] [] G r := by
  refine wk_aload_n 0 dX6_keep_63 rfl rfl ?_
  refine wk_getR 1 74 flX6_239 rfl hk1 dX6_keep_64 ?_
  refine wk_iconst (0 : Int32) dX6_keep_67 (by decide) ?_
  refine wk_aload_n 0 dX6_keep_68 rfl rfl ?_
  refine wk_getR 1 80 flX6_257 rfl hk1 dX6_keep_69 ?_
  refine wk_iconst (0 : Int32) dX6_keep_72 (by decide) ?_
  refine wk_aload_n 0 dX6_keep_73 rfl rfl ?_
  refine wk_getI 1 51 flX6_169 rfl hk1 dX6_keep_74 ?_
  refine wk_eAt 2 e4 rfl ?_
  refine wk_eAt 4 e5 rfl ?_
  exact wk_acopyR ⟨q3171, q617, q616, q134⟩ hA6 hk9 hk8 hT hs1 hs1 hs3 hs4 hs5 hf (Nat.le_of_ble_eq_true rfl) hdp dX6_keep_77 k
theorem blX6_keep_80_I {w : WD} {j : JB} {r : Nat} {G : GH} {a0 : Nat} {o4 : Nat} {o5 : Nat}
    (hk1 : hp_kd G a0 = 1)
    (e4 : (hp_r G a0 81) = some o4)
    (e5 : (hp_r G a0 78) = some o5)
    (hA6 : hp_A w o4)
    (hs1 : ¬ (0 : Int32) < 0)
    (hs3 : ¬ (hp_i G a0 51) < 0)
    (hs4 : (0 : Int32).toNatClampNeg + (hp_i G a0 51).toNatClampNeg ≤ hp_ln G o5)
    (hs5 : (0 : Int32).toNatClampNeg + (hp_i G a0 51).toNatClampNeg ≤ hp_ln G o4)
    (hdp : 1 ≤ j.1)
    (hk9 : 28 ≤ hp_kd G o4 ∧ hp_kd G o4 < 31)
    (hk8 : hp_kd G o5 = hp_kd G o4)
    (hf : ∀ i, i < (hp_i G a0 51).toNatClampNeg → fits (hp_at (hp_kd G o4)) (.int (hp_i G o5 ((0 : Int32).toNatClampNeg + i))) = true)
    (k : wk_V w mX6_keep j 97 [] [] (hp_setI G o4 (va_cpy (hp_i G o5) (hp_i G o4) (0 : Int32).toNatClampNeg (0 : Int32).toNatClampNeg (hp_i G a0 51).toNatClampNeg)) r)
    : wk_V w mX6_keep j 80 [(0, vR (some a0))] [] G r := by
  refine wk_aload_n 0 dX6_keep_80 rfl rfl ?_
  refine wk_getR 1 78 flX6_251 rfl hk1 dX6_keep_81 ?_
  refine wk_iconst (0 : Int32) dX6_keep_84 (by decide) ?_
  refine wk_aload_n 0 dX6_keep_85 rfl rfl ?_
  refine wk_getR 1 81 flX6_260 rfl hk1 dX6_keep_86 ?_
  refine wk_iconst (0 : Int32) dX6_keep_89 (by decide) ?_
  refine wk_aload_n 0 dX6_keep_90 rfl rfl ?_
  refine wk_getI 1 51 flX6_169 rfl hk1 dX6_keep_91 ?_
  refine wk_eAt 2 e4 rfl ?_
  refine wk_eAt 4 e5 rfl ?_
  exact wk_acopyI ⟨q3171, q617, q616, q134⟩ hA6 hk9 hk8 hs1 hs1 hs3 hs4 hs5 hf (Nat.le_of_ble_eq_true rfl) hdp dX6_keep_94 (wk_sub [] trivial k)
theorem blX6_keep_80_R {w : WD} {j : JB} {r : Nat} {G : GH} {a0 : Nat} {o4 : Nat} {o5 : Nat} {T7 : String}
    (hk1 : hp_kd G a0 = 1)
    (e4 : (hp_r G a0 81) = some o4)
    (e5 : (hp_r G a0 78) = some o5)
    (hA6 : hp_A w o4)
    (hs1 : ¬ (0 : Int32) < 0)
    (hs3 : ¬ (hp_i G a0 51) < 0)
    (hs4 : (0 : Int32).toNatClampNeg + (hp_i G a0 51).toNatClampNeg ≤ hp_ln G o5)
    (hs5 : (0 : Int32).toNatClampNeg + (hp_i G a0 51).toNatClampNeg ≤ hp_ln G o4)
    (hdp : 1 ≤ j.1)
    (hk9 : 32 ≤ hp_kd G o4)
    (hk8 : 32 ≤ hp_kd G o5)
    (hT : hp_at (hp_kd G o4) = .object T7)
    (hf : ∀ i, i < (hp_i G a0 51).toNatClampNeg → ∀ y, hp_r G o5 ((0 : Int32).toNatClampNeg + i) = some y → hp_kd G y ≠ 0 ∧ hp_kd G y < 28 ∧ hp_sub (hp_kd G y) T7)
    (k : wk_V w mX6_keep j 97 [] [] (hp_setR G o4 (va_cpy (hp_r G o5) (hp_r G o4) (0 : Int32).toNatClampNeg (0 : Int32).toNatClampNeg (hp_i G a0 51).toNatClampNeg)) r)
    : wk_V w mX6_keep j 80 [(0, vR (some a0))] [] G r := by
  refine wk_aload_n 0 dX6_keep_80 rfl rfl ?_
  refine wk_getR 1 78 flX6_251 rfl hk1 dX6_keep_81 ?_
  refine wk_iconst (0 : Int32) dX6_keep_84 (by decide) ?_
  refine wk_aload_n 0 dX6_keep_85 rfl rfl ?_
  refine wk_getR 1 81 flX6_260 rfl hk1 dX6_keep_86 ?_
  refine wk_iconst (0 : Int32) dX6_keep_89 (by decide) ?_
  refine wk_aload_n 0 dX6_keep_90 rfl rfl ?_
  refine wk_getI 1 51 flX6_169 rfl hk1 dX6_keep_91 ?_
  refine wk_eAt 2 e4 rfl ?_
  refine wk_eAt 4 e5 rfl ?_
  exact wk_acopyR ⟨q3171, q617, q616, q134⟩ hA6 hk9 hk8 hT hs1 hs1 hs3 hs4 hs5 hf (Nat.le_of_ble_eq_true rfl) hdp dX6_keep_94 (wk_sub [] trivial k)
theorem blX6_back_27_I {w : WD} {j : JB} {r : Nat} {G : GH} {a0 : Nat} {o8 : Nat} {o9 : Nat}
    (hk1 : hp_kd G a0 = 1)
    (hA4 : hp_A w a0)
    (e8 : (hp_r G a0 75) = some o8)
    (e9 : (hp_r G a0 79) = some o9)
    (hA10 : hp_A w o8)
    (hs1 : ¬ (0 : Int32) < 0)
    (hs3 : ¬ (hp_i (hp_sI G a0 72 (hp_i G a0 82)) a0 52) < 0)
    (hs4 : (0 : Int32).toNatClampNeg + (hp_i (hp_sI G a0 72 (hp_i G a0 82)) a0 52).toNatClampNeg ≤ hp_ln G o9)
    (hs5 : (0 : Int32).toNatClampNeg + (hp_i (hp_sI G a0 72 (hp_i G a0 82)) a0 52).toNatClampNeg ≤ hp_ln G o8)
    (hdp : 1 ≤ j.1)
    (hk9 : 28 ≤ hp_kd G o8 ∧ hp_kd G o8 < 31)
    (hk8 : hp_kd G o9 = hp_kd G o8)
    (hf : ∀ i, i < (hp_i (hp_sI G a0 72 (hp_i G a0 82)) a0 52).toNatClampNeg → fits (hp_at (hp_kd G o8)) (.int (hp_i (hp_sI G a0 72 (hp_i G a0 82)) o9 ((0 : Int32).toNatClampNeg + i))) = true)
    (k : wk_V w mX6_back j 57 [(0, vR (some a0)), (1, vI (hp_i G a0 72))] [] (hp_setI (hp_sI G a0 72 (hp_i G a0 82)) o8 (va_cpy (hp_i (hp_sI G a0 72 (hp_i G a0 82)) o9) (hp_i (hp_sI G a0 72 (hp_i G a0 82)) o8) (0 : Int32).toNatClampNeg (0 : Int32).toNatClampNeg (hp_i (hp_sI G a0 72 (hp_i G a0 82)) a0 52).toNatClampNeg)) r)
    : wk_V w mX6_back j 27 [(0, vR (some a0))] [] G r := by
  refine wk_aload_n 0 dX6_back_27 rfl rfl ?_
  refine wk_getI 1 72 flX6_233 rfl hk1 dX6_back_28 ?_
  refine wk_istore_n 1 dX6_back_31 rfl (Nat.le_of_ble_eq_true rfl) ?_
  refine wk_aload_n 0 dX6_back_32 rfl rfl ?_
  refine wk_aload_n 0 dX6_back_33 rfl rfl ?_
  refine wk_getI 1 82 flX6_263 rfl hk1 dX6_back_34 ?_
  refine wk_putI 1 72 flX6_233 rfl (Or.inl rfl) hk1 hA4 ⟨rfl, rfl⟩ dX6_back_37 ?_
  refine wk_aload_n 0 dX6_back_40 rfl rfl ?_
  refine wk_getR 1 79 flX6_254 rfl hk1 dX6_back_41 ?_
  refine wk_iconst (0 : Int32) dX6_back_44 (by decide) ?_
  refine wk_aload_n 0 dX6_back_45 rfl rfl ?_
  refine wk_getR 1 75 flX6_242 rfl hk1 dX6_back_46 ?_
  refine wk_iconst (0 : Int32) dX6_back_49 (by decide) ?_
  refine wk_aload_n 0 dX6_back_50 rfl rfl ?_
  refine wk_getI 1 52 flX6_172 rfl hk1 dX6_back_51 ?_
  refine wk_eAt 2 e8 rfl ?_
  refine wk_eAt 4 e9 rfl ?_
  exact wk_acopyI ⟨q3171, q617, q616, q134⟩ hA10 hk9 hk8 hs1 hs1 hs3 hs4 hs5 hf (Nat.le_of_ble_eq_true rfl) hdp dX6_back_54 k
theorem blX6_back_27_R {w : WD} {j : JB} {r : Nat} {G : GH} {a0 : Nat} {o8 : Nat} {o9 : Nat} {T11 : String}
    (hk1 : hp_kd G a0 = 1)
    (hA4 : hp_A w a0)
    (e8 : (hp_r G a0 75) = some o8)
    (e9 : (hp_r G a0 79) = some o9)
    (hA10 : hp_A w o8)
    (hs1 : ¬ (0 : Int32) < 0)
    (hs3 : ¬ (hp_i (hp_sI G a0 72 (hp_i G a0 82)) a0 52) < 0)
    (hs4 : (0 : Int32).toNatClampNeg + (hp_i (hp_sI G a0 72 (hp_i G a0 82)) a0 52).toNatClampNeg ≤ hp_ln G o9)
    (hs5 : (0 : Int32).toNatClampNeg + (hp_i (hp_sI G a0 72 (hp_i G a0 82)) a0 52).toNatClampNeg ≤ hp_ln G o8)
    (hdp : 1 ≤ j.1)
    (hk9 : 32 ≤ hp_kd G o8)
    (hk8 : 32 ≤ hp_kd G o9)
    (hT : hp_at (hp_kd G o8) = .object T11)
    (hf : ∀ i, i < (hp_i (hp_sI G a0 72 (hp_i G a0 82)) a0 52).toNatClampNeg → ∀ y, hp_r (hp_sI G a0 72 (hp_i G a0 82)) o9 ((0 : Int32).toNatClampNeg + i) = some y → hp_kd G y ≠ 0 ∧ hp_kd G y < 28 ∧ hp_sub (hp_kd G y) T11)
    (k : wk_V w mX6_back j 57 [(0, vR (some a0)), (1, vI (hp_i G a0 72))] [] (hp_setR (hp_sI G a0 72 (hp_i G a0 82)) o8 (va_cpy (hp_r (hp_sI G a0 72 (hp_i G a0 82)) o9) (hp_r (hp_sI G a0 72 (hp_i G a0 82)) o8) (0 : Int32).toNatClampNeg (0 : Int32).toNatClampNeg (hp_i (hp_sI G a0 72 (hp_i G a0 82)) a0 52).toNatClampNeg)) r)
    : wk_V w mX6_back j 27 [(0, vR (some a0))] [] G r := by
  refine wk_aload_n 0 dX6_back_27 rfl rfl ?_
  refine wk_getI 1 72 flX6_233 rfl hk1 dX6_back_28 ?_
  refine wk_istore_n 1 dX6_back_31 rfl (Nat.le_of_ble_eq_true rfl) ?_
  refine wk_aload_n 0 dX6_back_32 rfl rfl ?_
  refine wk_aload_n 0 dX6_back_33 rfl rfl ?_
  refine wk_getI 1 82 flX6_263 rfl hk1 dX6_back_34 ?_
  refine wk_putI 1 72 flX6_233 rfl (Or.inl rfl) hk1 hA4 ⟨rfl, rfl⟩ dX6_back_37 ?_
  refine wk_aload_n 0 dX6_back_40 rfl rfl ?_
  refine wk_getR 1 79 flX6_254 rfl hk1 dX6_back_41 ?_
  refine wk_iconst (0 : Int32) dX6_back_44 (by decide) ?_
  refine wk_aload_n 0 dX6_back_45 rfl rfl ?_
  refine wk_getR 1 75 flX6_242 rfl hk1 dX6_back_46 ?_
  refine wk_iconst (0 : Int32) dX6_back_49 (by decide) ?_
  refine wk_aload_n 0 dX6_back_50 rfl rfl ?_
  refine wk_getI 1 52 flX6_172 rfl hk1 dX6_back_51 ?_
  refine wk_eAt 2 e8 rfl ?_
  refine wk_eAt 4 e9 rfl ?_
  exact wk_acopyR ⟨q3171, q617, q616, q134⟩ hA10 hk9 hk8 hT hs1 hs1 hs3 hs4 hs5 hf (Nat.le_of_ble_eq_true rfl) hdp dX6_back_54 k
theorem blX6_back_57_I {w : WD} {j : JB} {r : Nat} {G : GH} {a0 : Nat} {x1 : Int32} {o4 : Nat} {o5 : Nat}
    (hk1 : hp_kd G a0 = 1)
    (e4 : (hp_r G a0 74) = some o4)
    (e5 : (hp_r G a0 80) = some o5)
    (hA6 : hp_A w o4)
    (hs1 : ¬ (0 : Int32) < 0)
    (hs3 : ¬ (hp_i G a0 51) < 0)
    (hs4 : (0 : Int32).toNatClampNeg + (hp_i G a0 51).toNatClampNeg ≤ hp_ln G o5)
    (hs5 : (0 : Int32).toNatClampNeg + (hp_i G a0 51).toNatClampNeg ≤ hp_ln G o4)
    (hdp : 1 ≤ j.1)
    (hk9 : 28 ≤ hp_kd G o4 ∧ hp_kd G o4 < 31)
    (hk8 : hp_kd G o5 = hp_kd G o4)
    (hf : ∀ i, i < (hp_i G a0 51).toNatClampNeg → fits (hp_at (hp_kd G o4)) (.int (hp_i G o5 ((0 : Int32).toNatClampNeg + i))) = true)
    (k : wk_V w mX6_back j 74 [(0, vR (some a0)), (1, vI x1)] [] (hp_setI G o4 (va_cpy (hp_i G o5) (hp_i G o4) (0 : Int32).toNatClampNeg (0 : Int32).toNatClampNeg (hp_i G a0 51).toNatClampNeg)) r)
    : wk_V w mX6_back j 57 [(0, vR (some a0)), (1, vI x1)] [] G r := by
  refine wk_aload_n 0 dX6_back_57 rfl rfl ?_
  refine wk_getR 1 80 flX6_257 rfl hk1 dX6_back_58 ?_
  refine wk_iconst (0 : Int32) dX6_back_61 (by decide) ?_
  refine wk_aload_n 0 dX6_back_62 rfl rfl ?_
  refine wk_getR 1 74 flX6_239 rfl hk1 dX6_back_63 ?_
  refine wk_iconst (0 : Int32) dX6_back_66 (by decide) ?_
  refine wk_aload_n 0 dX6_back_67 rfl rfl ?_
  refine wk_getI 1 51 flX6_169 rfl hk1 dX6_back_68 ?_
  refine wk_eAt 2 e4 rfl ?_
  refine wk_eAt 4 e5 rfl ?_
  exact wk_acopyI ⟨q3171, q617, q616, q134⟩ hA6 hk9 hk8 hs1 hs1 hs3 hs4 hs5 hf (Nat.le_of_ble_eq_true rfl) hdp dX6_back_71 k
theorem blX6_back_57_R {w : WD} {j : JB} {r : Nat} {G : GH} {a0 : Nat} {x1 : Int32} {o4 : Nat} {o5 : Nat} {T7 : String}
    (hk1 : hp_kd G a0 = 1)
    (e4 : (hp_r G a0 74) = some o4)
    (e5 : (hp_r G a0 80) = some o5)
    (hA6 : hp_A w o4)
    (hs1 : ¬ (0 : Int32) < 0)
    (hs3 : ¬ (hp_i G a0 51) < 0)
    (hs4 : (0 : Int32).toNatClampNeg + (hp_i G a0 51).toNatClampNeg ≤ hp_ln G o5)
    (hs5 : (0 : Int32).toNatClampNeg + (hp_i G a0 51).toNatClampNeg ≤ hp_ln G o4)
    (hdp : 1 ≤ j.1)
    (hk9 : 32 ≤ hp_kd G o4)
    (hk8 : 32 ≤ hp_kd G o5)
    (hT : hp_at (hp_kd G o4) = .object T7)
    (hf : ∀ i, i < (hp_i G a0 51).toNatClampNeg → ∀ y, hp_r G o5 ((0 : Int32).toNatClampNeg + i) = some y → hp_kd G y ≠ 0 ∧ hp_kd G y < 28 ∧ hp_sub (hp_kd G y) T7)
    (k : wk_V w mX6_back j 74 [(0, vR (some a0)), (1, vI x1)] [] (hp_setR G o4 (va_cpy (hp_r G o5) (hp_r G o4) (0 : Int32).toNatClampNeg (0 : Int32).toNatClampNeg (hp_i G a0 51).toNatClampNeg)) r)
    : wk_V w mX6_back j 57 [(0, vR (some a0)), (1, vI x1)] [] G r := by
  refine wk_aload_n 0 dX6_back_57 rfl rfl ?_
  refine wk_getR 1 80 flX6_257 rfl hk1 dX6_back_58 ?_
  refine wk_iconst (0 : Int32) dX6_back_61 (by decide) ?_
  refine wk_aload_n 0 dX6_back_62 rfl rfl ?_
  refine wk_getR 1 74 flX6_239 rfl hk1 dX6_back_63 ?_
  refine wk_iconst (0 : Int32) dX6_back_66 (by decide) ?_
  refine wk_aload_n 0 dX6_back_67 rfl rfl ?_
  refine wk_getI 1 51 flX6_169 rfl hk1 dX6_back_68 ?_
  refine wk_eAt 2 e4 rfl ?_
  refine wk_eAt 4 e5 rfl ?_
  exact wk_acopyR ⟨q3171, q617, q616, q134⟩ hA6 hk9 hk8 hT hs1 hs1 hs3 hs4 hs5 hf (Nat.le_of_ble_eq_true rfl) hdp dX6_back_71 k
theorem blX6_back_74_I {w : WD} {j : JB} {r : Nat} {G : GH} {a0 : Nat} {x1 : Int32} {o4 : Nat} {o5 : Nat}
    (hk1 : hp_kd G a0 = 1)
    (e4 : (hp_r G a0 78) = some o4)
    (e5 : (hp_r G a0 81) = some o5)
    (hA6 : hp_A w o4)
    (hs1 : ¬ (0 : Int32) < 0)
    (hs3 : ¬ (hp_i G a0 51) < 0)
    (hs4 : (0 : Int32).toNatClampNeg + (hp_i G a0 51).toNatClampNeg ≤ hp_ln G o5)
    (hs5 : (0 : Int32).toNatClampNeg + (hp_i G a0 51).toNatClampNeg ≤ hp_ln G o4)
    (hdp : 1 ≤ j.1)
    (hk9 : 28 ≤ hp_kd G o4 ∧ hp_kd G o4 < 31)
    (hk8 : hp_kd G o5 = hp_kd G o4)
    (hf : ∀ i, i < (hp_i G a0 51).toNatClampNeg → fits (hp_at (hp_kd G o4)) (.int (hp_i G o5 ((0 : Int32).toNatClampNeg + i))) = true)
    (k : wk_V w mX6_back j 91 [(1, vI x1)] [] (hp_setI G o4 (va_cpy (hp_i G o5) (hp_i G o4) (0 : Int32).toNatClampNeg (0 : Int32).toNatClampNeg (hp_i G a0 51).toNatClampNeg)) r)
    : wk_V w mX6_back j 74 [(0, vR (some a0)), (1, vI x1)] [] G r := by
  refine wk_aload_n 0 dX6_back_74 rfl rfl ?_
  refine wk_getR 1 81 flX6_260 rfl hk1 dX6_back_75 ?_
  refine wk_iconst (0 : Int32) dX6_back_78 (by decide) ?_
  refine wk_aload_n 0 dX6_back_79 rfl rfl ?_
  refine wk_getR 1 78 flX6_251 rfl hk1 dX6_back_80 ?_
  refine wk_iconst (0 : Int32) dX6_back_83 (by decide) ?_
  refine wk_aload_n 0 dX6_back_84 rfl rfl ?_
  refine wk_getI 1 51 flX6_169 rfl hk1 dX6_back_85 ?_
  refine wk_eAt 2 e4 rfl ?_
  refine wk_eAt 4 e5 rfl ?_
  exact wk_acopyI ⟨q3171, q617, q616, q134⟩ hA6 hk9 hk8 hs1 hs1 hs3 hs4 hs5 hf (Nat.le_of_ble_eq_true rfl) hdp dX6_back_88 (wk_sub [(1, vI x1)] ⟨rfl, trivial⟩ k)
theorem blX6_back_74_R {w : WD} {j : JB} {r : Nat} {G : GH} {a0 : Nat} {x1 : Int32} {o4 : Nat} {o5 : Nat} {T7 : String}
    (hk1 : hp_kd G a0 = 1)
    (e4 : (hp_r G a0 78) = some o4)
    (e5 : (hp_r G a0 81) = some o5)
    (hA6 : hp_A w o4)
    (hs1 : ¬ (0 : Int32) < 0)
    (hs3 : ¬ (hp_i G a0 51) < 0)
    (hs4 : (0 : Int32).toNatClampNeg + (hp_i G a0 51).toNatClampNeg ≤ hp_ln G o5)
    (hs5 : (0 : Int32).toNatClampNeg + (hp_i G a0 51).toNatClampNeg ≤ hp_ln G o4)
    (hdp : 1 ≤ j.1)
    (hk9 : 32 ≤ hp_kd G o4)
    (hk8 : 32 ≤ hp_kd G o5)
    (hT : hp_at (hp_kd G o4) = .object T7)
    (hf : ∀ i, i < (hp_i G a0 51).toNatClampNeg → ∀ y, hp_r G o5 ((0 : Int32).toNatClampNeg + i) = some y → hp_kd G y ≠ 0 ∧ hp_kd G y < 28 ∧ hp_sub (hp_kd G y) T7)
    (k : wk_V w mX6_back j 91 [(1, vI x1)] [] (hp_setR G o4 (va_cpy (hp_r G o5) (hp_r G o4) (0 : Int32).toNatClampNeg (0 : Int32).toNatClampNeg (hp_i G a0 51).toNatClampNeg)) r)
    : wk_V w mX6_back j 74 [(0, vR (some a0)), (1, vI x1)] [] G r := by
  refine wk_aload_n 0 dX6_back_74 rfl rfl ?_
  refine wk_getR 1 81 flX6_260 rfl hk1 dX6_back_75 ?_
  refine wk_iconst (0 : Int32) dX6_back_78 (by decide) ?_
  refine wk_aload_n 0 dX6_back_79 rfl rfl ?_
  refine wk_getR 1 78 flX6_251 rfl hk1 dX6_back_80 ?_
  refine wk_iconst (0 : Int32) dX6_back_83 (by decide) ?_
  refine wk_aload_n 0 dX6_back_84 rfl rfl ?_
  refine wk_getI 1 51 flX6_169 rfl hk1 dX6_back_85 ?_
  refine wk_eAt 2 e4 rfl ?_
  refine wk_eAt 4 e5 rfl ?_
  exact wk_acopyR ⟨q3171, q617, q616, q134⟩ hA6 hk9 hk8 hT hs1 hs1 hs3 hs4 hs5 hf (Nat.le_of_ble_eq_true rfl) hdp dX6_back_88 (wk_sub [(1, vI x1)] ⟨rfl, trivial⟩ k)
