/-! THE COMPONENT's finish: parts, gather -/
set_option maxRecDepth 100000
/-- where the number of a call, of a memory stands -/
def nuf (s : Int32) : Nat := if s = 3 then 8 else if s = 5 ∨ s = 6 then 6 else if s = 24 ∨ s = 25 then 5 else 99
/-- what has a memory -/
abbrev isM (s : Int32) : Prop := s = 24 ∨ s = 5 ∨ s = 6 ∨ s = 25
/-- the calls, the memories among the expressions lo .. l - 1 -/
def cls (S : MS) (lo l : Nat) : List Nat := (List.range' lo (l - lo)).filter (fun x => decide (S.2 32 x = 3))
def mes (S : MS) (lo l : Nat) : List Nat := (List.range' lo (l - lo)).filter (fun x => decide (isM (S.2 32 x)))
theorem fl_succ {p : Nat → Bool} {lo l : Nat} (h : lo ≤ l) : (List.range' lo (l + 1 - lo)).filter p = (List.range' lo (l - lo)).filter p ++ (if p l = true then [l] else []) := by
  rw [show l + 1 - lo = (l - lo) + 1 by omega, List.range'_concat, List.filter_append, show lo + 1 * (l - lo) = l by omega]
  congr 1
  rw [List.filter_cons, List.filter_nil]
theorem cls_s {S : MS} {lo l : Nat} (h : lo ≤ l) : cls S lo (l + 1) = cls S lo l ++ (if S.2 32 l = 3 then [l] else []) := by
  unfold cls
  rw [fl_succ h]
  congr 1
  by_cases u : S.2 32 l = 3
  · rw [if_pos u, if_pos (decide_eq_true u)]
  · rw [if_neg u, if_neg (by rw [decide_eq_false u]; decide)]
theorem mes_s {S : MS} {lo l : Nat} (h : lo ≤ l) : mes S lo (l + 1) = mes S lo l ++ (if isM (S.2 32 l) then [l] else []) := by
  unfold mes
  rw [fl_succ h]
  congr 1
  by_cases u : isM (S.2 32 l)
  · rw [if_pos u, if_pos (decide_eq_true u)]
  · rw [if_neg u, if_neg (by rw [decide_eq_false u]; decide)]
theorem cls_le {S : MS} {lo l : Nat} : (cls S lo l).length ≤ l - lo := by
  have := List.length_filter_le (fun x => decide (S.2 32 x = 3)) (List.range' lo (l - lo))
  rw [List.length_range'] at this
  exact this
theorem mes_le {S : MS} {lo l : Nat} : (mes S lo l).length ≤ l - lo := by
  have := List.length_filter_le (fun x => decide (isM (S.2 32 x))) (List.range' lo (l - lo))
  rw [List.length_range'] at this
  exact this
theorem cls_mem {S : MS} {lo l x : Nat} : x ∈ cls S lo l ↔ (lo ≤ x ∧ x < l) ∧ S.2 32 x = 3 := by
  unfold cls
  rw [List.mem_filter, List.mem_range'_1]
  constructor
  · rintro ⟨a, b⟩; exact ⟨⟨by omega, by omega⟩, of_decide_eq_true b⟩
  · rintro ⟨a, b⟩; exact ⟨⟨by omega, by omega⟩, decide_eq_true b⟩
theorem mes_mem {S : MS} {lo l x : Nat} : x ∈ mes S lo l ↔ (lo ≤ x ∧ x < l) ∧ isM (S.2 32 x) := by
  unfold mes
  rw [List.mem_filter, List.mem_range'_1]
  constructor
  · rintro ⟨a, b⟩; exact ⟨⟨by omega, by omega⟩, of_decide_eq_true b⟩
  · rintro ⟨a, b⟩; exact ⟨⟨by omega, by omega⟩, decide_eq_true b⟩
theorem hp_instT {G : GH} {x : Nat} (hk : 13 ≤ hp_kd G x ∧ hp_kd G x ≤ 21) : hp_inst G (some x) "StreamNodes$Together" (if 15 ≤ hp_kd G x then 1 else 0) := by
  refine Or.inr ⟨x, rfl, by omega, by omega, ?_⟩
  have h1 : ∀ k, k < 22 → 15 ≤ k → hp_sub k "StreamNodes$Together" := by
    unfold hp_sub
    decide +kernel
  have h2 : ∀ k, k < 15 → 13 ≤ k → (hp_C k, "StreamNodes$Together") ∈ hp_ncL := by decide +kernel
  by_cases u : 15 ≤ hp_kd G x
  · exact Or.inl ⟨if_pos u, h1 _ (by omega) u⟩
  · exact Or.inr ⟨if_neg u, h2 _ (by omega) hk.1⟩
theorem hp_instM {G : GH} {x : Nat} (hk : 15 ≤ hp_kd G x ∧ hp_kd G x ≤ 21) : hp_inst G (some x) "StreamNodes$Memory" (if hp_kd G x = 17 ∨ hp_kd G x = 18 ∨ hp_kd G x = 20 then 1 else 0) := by
  refine Or.inr ⟨x, rfl, by omega, by omega, ?_⟩
  have s17 : hp_sub 17 "StreamNodes$Memory" := by unfold hp_sub; decide +kernel
  have s18 : hp_sub 18 "StreamNodes$Memory" := by unfold hp_sub; decide +kernel
  have s20 : hp_sub 20 "StreamNodes$Memory" := by unfold hp_sub; decide +kernel
  have n15 : (hp_C 15, "StreamNodes$Memory") ∈ hp_ncL := by decide +kernel
  have n16 : (hp_C 16, "StreamNodes$Memory") ∈ hp_ncL := by decide +kernel
  have n19 : (hp_C 19, "StreamNodes$Memory") ∈ hp_ncL := by decide +kernel
  have n21 : (hp_C 21, "StreamNodes$Memory") ∈ hp_ncL := by decide +kernel
  have hc : hp_kd G x = 15 ∨ hp_kd G x = 16 ∨ hp_kd G x = 17 ∨ hp_kd G x = 18 ∨ hp_kd G x = 19 ∨ hp_kd G x = 20 ∨ hp_kd G x = 21 := by omega
  rcases hc with u | u | u | u | u | u | u <;> rw [u]
  · exact Or.inr ⟨rfl, n15⟩
  · exact Or.inr ⟨rfl, n16⟩
  · exact Or.inl ⟨rfl, s17⟩
  · exact Or.inl ⟨rfl, s18⟩
  · exact Or.inr ⟨rfl, n19⟩
  · exact Or.inl ⟨rfl, s20⟩
  · exact Or.inr ⟨rfl, n21⟩
theorem hp_instF {G : GH} {x : Nat} (hk : hp_kd G x = 17 ∨ hp_kd G x = 18 ∨ hp_kd G x = 20) : hp_inst G (some x) "StreamNodes$First" (if hp_kd G x = 17 then 1 else 0) := by
  refine Or.inr ⟨x, rfl, by omega, by omega, ?_⟩
  have n18 : (hp_C 18, "StreamNodes$First") ∈ hp_ncL := by decide +kernel
  have n20 : (hp_C 20, "StreamNodes$First") ∈ hp_ncL := by decide +kernel
  rcases hk with u | u | u <;> rw [u]
  · exact Or.inl ⟨rfl, Or.inl rfl⟩
  · exact Or.inr ⟨rfl, n18⟩
  · exact Or.inr ⟨rfl, n20⟩
theorem hp_instB {G : GH} {x : Nat} (hk : hp_kd G x = 18 ∨ hp_kd G x = 20) : hp_inst G (some x) "StreamNodes$Before" (if hp_kd G x = 18 then 1 else 0) := by
  refine Or.inr ⟨x, rfl, by omega, by omega, ?_⟩
  have n20 : (hp_C 20, "StreamNodes$Before") ∈ hp_ncL := by decide +kernel
  rcases hk with u | u <;> rw [u]
  · exact Or.inl ⟨rfl, Or.inl rfl⟩
  · exact Or.inr ⟨rfl, n20⟩
