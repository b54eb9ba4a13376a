/-! read's catch and its end -/
set_option maxRecDepth 100000
section
variable {z : MZ} {j : JB} {r : Nat}
theorem read_catch {PX : Int32 → Int32 → MS → Prop} {pc q : Nat} {E : String} {G : GH} (hpc : 102 ≤ pc ∧ pc < 272) (hx : ml_X z PX E q G) (K : ∀ kd pl σ, PX kd pl σ → ∀ G', ml_W z (ml_sf (ml_sf σ 3 kd) 4 pl) G' → hp_fr (ml_own z) z.2.2.2 G' → hp_cs G' = hp_cs G ∧ hp_ss G' = hp_ss G → wk_V z.1 mX6_read j 292 [(0, vR (some z.2.1))] [] G' r) : wk_T z.1 mX6_read j pc [(0, vR (some z.2.1))] G r E q := by
  obtain ⟨rfl, hq, σ, hW, hf, hP⟩ := hx
  refine wk_catch [] (102, 272, 275, 296) [] rfl (fun z hz => by cases hz) ?_ (by decide) q2857 (by decide) ?_
  · unfold covers
    simp only [Bool.and_eq_true, decide_eq_true_eq]
    exact hpc
  · refine blX6_read_275 rfl hq hW.1.1 hW.1.2 ?_
    have hne : q ≠ z.2.1 := fun e => by
      rw [e, hW.1.1] at hq
      cases hq
    have e1 : hp_i (hp_sI G z.2.1 3 (hp_i G q 6)) q 7 = hp_i G q 7 := by
      rw [(hp_sI_ne q hne).2.2.1]
    rw [e1]
    refine K _ _ _ hP _ ((hW.sf rfl).sf rfl) ?_ ⟨rfl, rfl⟩
    exact (hf.step (Or.inl (Or.inl rfl)) hp_sI_ne).step (Or.inl (Or.inl rfl)) hp_sI_ne
end
