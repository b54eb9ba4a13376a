/-! THE COMPONENT's finish: parts, gather -/
set_option maxRecDepth 100000
/-- where the number of a call, of a memory stands -/
def nuf (s : Int32) : Nat := if s = 3 then 8 else if s = 5 ∨ s = 6 then 6 else if s = 24 ∨ s = 25 then 5 else 99
/-- what has a memory -/
abbrev isM (s : Int32) : Prop := s = 24 ∨ s = 5 ∨ s = 6 ∨ s = 25
/-- the calls, the memories among the expressions lo .. l - 1 -/
def cls (S : MS) (lo l : Nat) : List Nat := (List.range' lo (l - lo)).filter (fun x => decide (S.2 32 x = 3))
def mes (S : MS) (lo l : Nat) : List Nat := (List.range' lo (l - lo)).filter (fun x => decide (isM (S.2 32 x)))
theorem fl_succ {p : Nat → Bool} {lo l : Nat} (h : lo ≤ l) : (List.range' lo (l + 1 - lo)).filter p = (List.range' lo (l - lo)).filter p ++ (if p l = true then [l] else []) := by
  rw [show l + 1 - lo = (l - lo) + 1 by omega, List.range'_concat, List.filter_append, show lo + 1 * (l - lo) = l by omega]
  congr 1
  rw [List.filter_cons, List.filter_nil]
theorem cls_s {S : MS} {lo l : Nat} (h : lo ≤ l) : cls S lo (l + 1) = cls S lo l ++ (if S.2 32 l = 3 then [l] else []) := by
  unfold cls
  rw [fl_succ h]
  congr 1
  by_cases u : S.2 32 l = 3
  · rw [if_pos u, if_pos (decide_eq_true u)]
  · rw [if_neg u, if_neg (by rw [decide_eq_false u]; decide)]
theorem mes_s {S : MS} {lo l : Nat} (h : lo ≤ l) : mes S lo (l + 1) = mes S lo l ++ (if isM (S.2 32 l) then [l] else []) := by
  unfold mes
  rw [fl_succ h]
  congr 1
  by_cases u : isM (S.2 32 l)
  · rw [if_pos u, if_pos (decide_eq_true u)]
  · rw [if_neg u, if_neg (by rw [decide_eq_false u]; decide)]
theorem cls_le {S : MS} {lo l : Nat} : (cls S lo l).length ≤ l - lo := by
  have := List.length_filter_le (fun x => decide (S.2 32 x = 3)) (List.range' lo (l - lo))
  rw [List.length_range'] at this
  exact this
theorem mes_le {S : MS} {lo l : Nat} : (mes S lo l).length ≤ l - lo := by
  have := List.length_filter_le (fun x => decide (isM (S.2 32 x))) (List.range' lo (l - lo))
  rw [List.length_range'] at this
  exact this
theorem cls_mem {S : MS} {lo l x : Nat} : x ∈ cls S lo l ↔ (lo ≤ x ∧ x < l) ∧ S.2 32 x = 3 := by
  unfold cls
  rw [List.mem_filter, List.mem_range'_1]
  constructor
  · rintro ⟨a, b⟩; exact ⟨⟨by omega, by omega⟩, of_decide_eq_true b⟩
  · rintro ⟨a, b⟩; exact ⟨⟨by omega, by omega⟩, decide_eq_true b⟩
theorem mes_mem {S : MS} {lo l x : Nat} : x ∈ mes S lo l ↔ (lo ≤ x ∧ x < l) ∧ isM (S.2 32 x) := by
  unfold mes
  rw [List.mem_filter, List.mem_range'_1]
  constructor
  · rintro ⟨a, b⟩; exact ⟨⟨by omega, by omega⟩, of_decide_eq_true b⟩
  · rintro ⟨a, b⟩; exact ⟨⟨by omega, by omega⟩, decide_eq_true b⟩
theorem hp_instT {G : GH} {x : Nat} (hk : 13 ≤ hp_kd G x ∧ hp_kd G x ≤ 21) : hp_inst G (some x) "StreamNodes$Together" (if 15 ≤ hp_kd G x then 1 else 0) := by
  refine Or.inr ⟨x, rfl, by omega, by omega, ?_⟩
  have h : ∀ k, k < 22 → 13 ≤ k → (15 ≤ k ∧ hp_sub k "StreamNodes$Together") ∨ (¬ 15 ≤ k ∧ (hp_C k, "StreamNodes$Together") ∈ hp_ncL) := by
    unfold hp_sub
    decide +kernel
  rcases h _ (by omega : hp_kd G x < 22) hk.1 with ⟨a, b⟩ | ⟨a, b⟩
  · exact Or.inl ⟨if_pos a, b⟩
  · exact Or.inr ⟨if_neg a, b⟩
theorem hp_instM {G : GH} {x : Nat} (hk : 15 ≤ hp_kd G x ∧ hp_kd G x ≤ 21) : hp_inst G (some x) "StreamNodes$Memory" (if hp_kd G x = 17 ∨ hp_kd G x = 18 ∨ hp_kd G x = 20 then 1 else 0) := by
  refine Or.inr ⟨x, rfl, by omega, by omega, ?_⟩
  have h : ∀ k, k < 22 → 15 ≤ k → ((k = 17 ∨ k = 18 ∨ k = 20) ∧ hp_sub k "StreamNodes$Memory") ∨ (¬ (k = 17 ∨ k = 18 ∨ k = 20) ∧ (hp_C k, "StreamNodes$Memory") ∈ hp_ncL) := by
    unfold hp_sub
    decide +kernel
  rcases h _ (by omega : hp_kd G x < 22) hk.1 with ⟨a, b⟩ | ⟨a, b⟩
  · exact Or.inl ⟨if_pos a, b⟩
  · exact Or.inr ⟨if_neg a, b⟩
theorem hp_instF {G : GH} {x : Nat} (hk : hp_kd G x = 17 ∨ hp_kd G x = 18 ∨ hp_kd G x = 20) : hp_inst G (some x) "StreamNodes$First" (if hp_kd G x = 17 then 1 else 0) := by
  refine Or.inr ⟨x, rfl, by omega, by omega, ?_⟩
  have h : ∀ k, k < 22 → (k = 17 ∨ k = 18 ∨ k = 20) → (k = 17 ∧ hp_sub k "StreamNodes$First") ∨ (¬ k = 17 ∧ (hp_C k, "StreamNodes$First") ∈ hp_ncL) := by
    unfold hp_sub
    decide +kernel
  rcases h _ (by omega : hp_kd G x < 22) hk with ⟨a, b⟩ | ⟨a, b⟩
  · exact Or.inl ⟨if_pos a, b⟩
  · exact Or.inr ⟨if_neg a, b⟩
theorem hp_instB {G : GH} {x : Nat} (hk : hp_kd G x = 18 ∨ hp_kd G x = 20) : hp_inst G (some x) "StreamNodes$Before" (if hp_kd G x = 18 then 1 else 0) := by
  refine Or.inr ⟨x, rfl, by omega, by omega, ?_⟩
  have h : ∀ k, k < 22 → (k = 18 ∨ k = 20) → (k = 18 ∧ hp_sub k "StreamNodes$Before") ∨ (¬ k = 18 ∧ (hp_C k, "StreamNodes$Before") ∈ hp_ncL) := by
    unfold hp_sub
    decide +kernel
  rcases h _ (by omega : hp_kd G x < 22) hk with ⟨a, b⟩ | ⟨a, b⟩
  · exact Or.inl ⟨if_pos a, b⟩
  · exact Or.inr ⟨if_neg a, b⟩
section
variable {q : PZ} {S : MS} {X Q kq : Nat → Nat} {lo hi n t Lc Lm Lr : Nat} {G G1 G' : GH}
/-- how many parts -/
theorem parts_C (hpw : pw S lo hi) (hh : hi ≤ 5000) : ∀ m e d G, xh S e < m → lo ≤ e → e < hi → tw q lo hi S X G → xh S e + 3 ≤ d → wk_C q.1.1 (vt_parts (hp_kd G (X e))) d 0 [vR (some (X e))] G (fun v G' => v = some (vI (nI (e + 1 - lw (S.2 34) e))) ∧ G' = G) (fun _ _ _ => False) := by
  intro m
  induction m with
  | zero => intro e d G hm; omega
  | succ m ih =>
    intro e d G hm h1 h2 hw hd
    obtain ⟨⟨g1, g2⟩, g3⟩ := hw.hts hpw hh h1 h2
    obtain ⟨hlo, y0⟩ := hpw e h1 h2
    obtain ⟨y1, y2, y3⟩ := y0.kl (by omega)
    have hlen := pw_k_len _ _ y2
    have kd := (hw.2.1 e h1 h2).1.1.1
    have hk := hw.k h1 h2
    rcases Classical.em (3 ≤ S.2 32 e) with h3 | h3
    · have kX : 15 ≤ hp_kd G (X e) ∧ hp_kd G (X e) ≤ 21 := by
        have h0 : ¬ (S.2 32 e = 0 ∨ S.2 32 e = 1) := by rintro (u | u) <;> rw [u] at h3 <;> exact absurd h3 (by decide)
        have h02 : ¬ S.2 32 e = 2 := fun u => by rw [u] at h3; exact absurd h3 (by decide)
        refine ⟨?_, hk.2⟩
        rw [kd]
        unfold xk
        rw [if_neg h0, if_neg h02]
        repeat' split
        all_goals decide
      have ev : vt_parts (hp_kd G (X e)) = mX12_parts := by
        have : hp_kd G (X e) = 15 ∨ hp_kd G (X e) = 16 ∨ hp_kd G (X e) = 17 ∨ hp_kd G (X e) = 18 ∨ hp_kd G (X e) = 19 ∨ hp_kd G (X e) = 20 ∨ hp_kd G (X e) = 21 := by omega
        rcases this with u | u | u | u | u | u | u <;> rw [u]
        · exact vt_parts_15
        · exact vt_parts_16
        · exact vt_parts_17
        · exact vt_parts_18
        · exact vt_parts_19
        · exact vt_parts_20
        · exact vt_parts_21
      rw [ev]
      obtain ⟨L, c, r3, r4, hal⟩ := hw.kids hpw hh h1 h2 h3
      refine wk_C_of (by decide) rfl (Nat.le_of_ble_eq_true rfl) ?_
      refine blX12_parts_0 ?_
      have loop : ∀ (rest ds : List Nat) (l : Nat), ds ++ rest = kls S e → pw_k (lw (S.2 34)) l rest e → lw (S.2 34) e ≤ l → wk_V q.1.1 mX12_parts (d, 0, (fun v G' => v = some (vI (nI (e + 1 - lw (S.2 34) e))) ∧ G' = G), (fun _ _ _ => False), hp_cs G, hp_ss G) 4 [(0, vR (some (X e))), (1, vI (nI (1 + (l - lw (S.2 34) e)))), (2, vI (nI ds.length))] [] G 0 := by
        intro rest
        induction rest with
        | nil =>
          intro ds l hds hpk hl
          rw [List.append_nil] at hds
          have el : l = e := hpk
          subst hds
          refine blX12_parts_4 kX r3 hal.1.1 (J5_size_C (d := 0) hal) (by show 0 + 1 ≤ d; omega) (Nat.zero_le _) ?_ (fun _ _ _ u => absurd u id)
          rintro v G9 ⟨rfl, rfl⟩
          refine blX12_parts_12 (fun _ => blX12_parts_38 ⟨?_, rfl⟩) (fun u => absurd (nI_le (Nat.le_refl _) (by omega)) u)
          rw [el, show 1 + (e - lw (S.2 34) e) = e + 1 - lw (S.2 34) e by omega]
        | cons k rest ihr =>
          intro ds l hds hpk hl
          obtain ⟨p1, p2, p3, p4⟩ := hpk
          have hll : ds.length < (kls S e).length := by rw [← hds, List.length_append, List.length_cons]; omega
          have hgk : (kls S e).getD ds.length 0 = k := by rw [← hds, List.getD_eq_getElem?_getD, List.getElem?_append_right (Nat.le_refl _), Nat.sub_self]; rfl
          refine blX12_parts_4 kX r3 hal.1.1 (J5_size_C (d := 0) hal) (by show 0 + 1 ≤ d; omega) (Nat.zero_le _) ?_ (fun _ _ _ u => absurd u id)
          rintro v G9 ⟨rfl, rfl⟩
          refine blX12_parts_12 (fun u => absurd ((nI_leI (by omega) (by omega)).1 u) (by omega)) (fun _ => ?_)
          refine blX12_parts_15 kX r3 hal.1.1 (J5_get_C (d := 2) (i := ds.length) hal hll (Nat.le_refl 2)) (by show 2 + 1 ≤ d; omega) (Nat.zero_le _) ?_ (fun _ _ _ u => absurd u id)
          rintro v G9 ⟨rfl, rfl⟩
          rw [hgk]
          have hmem : k ∈ kls S e := by rw [← hds]; simp
          obtain ⟨u1, u2, u3⟩ := g3 k hmem
          have kk := hw.k (e := k) (by omega) (by omega)
          refine vkX12_parts_24 (hcE kk) rfl kk (ih k (xh S e + 2) _ (by omega) u1 (by omega) hw (by omega)) (by show xh S e + 2 + 1 ≤ d; omega) (Nat.zero_le _) ?_ (fun _ _ _ u => absurd u id)
          rintro v G9 ⟨rfl, rfl⟩
          refine blX12_parts_30 ?_
          rw [nI_1, nI_add, p1, show 1 + (l - lw (S.2 34) e) + (k + 1 - l) = 1 + (k + 1 - lw (S.2 34) e) by omega, show ds.length + 1 = (ds ++ [k]).length by rw [List.length_append]; rfl]
          exact ihr _ _ (by rw [← hds]; simp) p4 (by omega)
      have h9 := loop (kls S e) [] (lw (S.2 34) e) rfl y2 (Nat.le_refl _)
      rw [Nat.sub_self] at h9
      exact h9
    · have h012 : S.2 32 e = 0 ∨ S.2 32 e = 1 ∨ S.2 32 e = 2 := by
        rcases y3 with ⟨s, -⟩ | ⟨s, -⟩ | ⟨s, -⟩ | ⟨s, -⟩ | ⟨s, -⟩ | ⟨s, s2, -⟩ | ⟨s, s2, -⟩ | ⟨s, -⟩
        · exact Or.inl s
        · exact Or.inr (Or.inl s)
        · exact Or.inr (Or.inr s)
        · exact absurd (by rw [s]; decide) h3
        · exact absurd (by rw [s]; decide) h3
        · exact absurd (Int32.le_trans (by decide) s) h3
        · exact absurd (Int32.le_trans (by decide) s) h3
        · exact absurd (by rw [s]; decide) h3
      have e0 : kls S e = [] := by
        have : (kls S e).length = 0 := by
          unfold pw_s at y3
          rcases h012 with u | u | u <;> rw [u] at y3
          · rcases y3 with ⟨-, w⟩ | ⟨w, -⟩ | ⟨w, -⟩ | ⟨w, -⟩ | ⟨w, -⟩ | ⟨w, -⟩ | ⟨w, -⟩ | ⟨w, -⟩ <;> first | exact w | exact absurd w (by decide)
          · rcases y3 with ⟨w, -⟩ | ⟨-, w, -⟩ | ⟨w, -⟩ | ⟨w, -⟩ | ⟨w, -⟩ | ⟨w, -⟩ | ⟨w, -⟩ | ⟨w, -⟩ <;> first | exact w | exact absurd w (by decide)
          · rcases y3 with ⟨w, -⟩ | ⟨w, -⟩ | ⟨-, w, -⟩ | ⟨w, -⟩ | ⟨w, -⟩ | ⟨w, -⟩ | ⟨w, -⟩ | ⟨w, -⟩ <;> first | exact w | exact absurd w (by decide)
        exact List.length_eq_zero_iff.1 this
      rw [e0] at y2
      have el : lw (S.2 34) e = e := y2
      have one : (1 : Int32) = nI (e + 1 - lw (S.2 34) e) := by rw [el, show e + 1 - e = 1 by omega]; rfl
      rcases h012 with u | u | u
      · rw [show hp_kd G (X e) = 13 by rw [kd, u]; rfl, vt_parts_13]
        refine wk_C_of (by decide) rfl (Nat.le_of_ble_eq_true rfl) (wk_sub [] trivial (blX18_parts_0 ⟨by rw [one], rfl⟩))
      · rw [show hp_kd G (X e) = 13 by rw [kd, u]; rfl, vt_parts_13]
        refine wk_C_of (by decide) rfl (Nat.le_of_ble_eq_true rfl) (wk_sub [] trivial (blX18_parts_0 ⟨by rw [one], rfl⟩))
      · rw [show hp_kd G (X e) = 14 by rw [kd, u]; rfl, vt_parts_14]
        refine wk_C_of (by decide) rfl (Nat.le_of_ble_eq_true rfl) (wk_sub [] trivial (blX19_parts_0 ⟨by rw [one], rfl⟩))
end
