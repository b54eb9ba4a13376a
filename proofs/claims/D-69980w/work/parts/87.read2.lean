/-! read's end: the tape and the memories are emptied -/
set_option maxRecDepth 100000
def rd_t (σ : MS) : MS := md_fl (md_fl (ml_sf σ 1 0) 73 0 (ml_len 73)) 75 0 (ml_len 75)
def rd_v (σ : MS) : Int32 := if 0 ≤ σ.1 49 then σ.1 51 else -1
/-- the reference's world seen from the heap G -/
def rd_z (z : MZ) (G : GH) : MZ := (z.1, z.2.1, z.2.2.1, G)
section
variable {z : MZ} {j : JB} {r : Nat}
theorem read_tail {σ : MS} {G : GH} (h : ml_W z σ G) (hf : hp_fr (ml_own z) z.2.2.2 G) (hd : 2 ≤ j.1) (hP : ∀ G', ml_W z (rd_t σ) G' → hp_fr (ml_own z) z.2.2.2 G' → hp_cs G' = hp_cs G ∧ hp_ss G' = hp_ss G → j.2.2.1 (some (vI (rd_v σ))) G') : wk_V z.1 mX6_read j 292 [(0, vR (some z.2.1))] [] G r := by
  have hW1 : ml_W z (ml_sf σ 1 0) (hp_sI G z.2.1 1 0) := h.sf rfl
  have hf1 : hp_fr (ml_own z) z.2.2.2 (hp_sI G z.2.1 1 0) := hf.step (Or.inl (Or.inl rfl)) hp_sI_ne
  refine blX6_read_292 (d' := 1) (b' := 0) (P := ml_P (rd_z z (hp_sI G z.2.1 1 0)) (fun v σ' _ => v = none ∧ σ' = md_fl (ml_sf σ 1 0) 73 0 (ml_len 73))) (PX := ml_X (rd_z z (hp_sI G z.2.1 1 0)) (fun _ _ _ => False)) h.1.1 h.1.2 ?_ hd (Nat.zero_le _) (fun v G1 hp => ?_) (fun E q G1 ⟨_, _, _, _, _, u⟩ => u.elim)
  · rw [(h.2.1 73 (by decide)).1]
    exact J17_fill_M (z := rd_z z (hp_sI G z.2.1 1 0)) (by decide) _ hW1 ⟨hp_fr.refl, rfl, rfl⟩
  obtain ⟨σ1, hW2, hF2, rfl, hσ⟩ := hp
  subst hσ
  have hW2 : ml_W z (md_fl (ml_sf σ 1 0) 73 0 (ml_len 73)) G1 := hW2
  have hf2 : hp_fr (ml_own z) z.2.2.2 G1 := hf1.trans hF2.1
  refine blX6_read_305 (d' := 1) (b' := 0) (P := ml_P (rd_z z G1) (fun v σ' _ => v = none ∧ σ' = rd_t σ)) (PX := ml_X (rd_z z G1) (fun _ _ _ => False)) hW2.1.1 ?_ hd (Nat.zero_le _) (fun v G2 hp => ?_) (fun E q G1 ⟨_, _, _, _, _, u⟩ => u.elim)
  · rw [(hW2.2.1 75 (by decide)).1]
    exact J17_fill_M (z := rd_z z G1) (by decide) _ hW2 ⟨hp_fr.refl, rfl, rfl⟩
  obtain ⟨σ2, hW3, hF3, rfl, hσ⟩ := hp
  subst hσ
  have hW3 : ml_W z (rd_t σ) G2 := hW3
  have hf3 : hp_fr (ml_own z) z.2.2.2 G2 := hf2.trans hF3.1
  have hc : hp_cs G2 = hp_cs G ∧ hp_ss G2 = hp_ss G := ⟨hF3.2.1.trans hF2.2.1, hF3.2.2.trans hF2.2.2⟩
  have e49 : hp_i G2 z.2.1 49 = σ.1 49 := hW3.2.2.2.1 49
  have e51 : hp_i G2 z.2.1 51 = σ.1 51 := hW3.2.2.2.1 51
  have fin := hP G2 hW3 hf3 hc
  unfold rd_v at fin
  refine blX6_read_313 hW3.1.1 (fun q => ?_) (fun q => ?_)
  · rw [e49] at q
    rw [if_pos q] at fin
    refine blX6_read_324 hW3.1.1 ?_
    rw [e51]
    exact blX6_read_328 fin
  · rw [e49] at q
    rw [if_neg q] at fin
    exact blX6_read_320 (blX6_read_328 fin)
end
