/-! partCauses of the reference -/
set_option maxRecDepth 100000
/-- only the causes have grown -/
def cs_same (σ σ' : MS) : Prop := (∀ q, q ≠ 67 → σ'.1 q = σ.1 q) ∧ (∀ q, q ≠ 66 → σ'.2 q = σ.2 q) ∧ ¬ σ'.1 67 < 0
theorem cs_same.tr {S S1 S2 : MS} (h : cs_same S S1) (h2 : cs_same S1 S2) : cs_same S S2 := ⟨fun q hq => (h2.1 q hq).trans (h.1 q hq), fun q hq => (h2.2.1 q hq).trans (h.2.1 q hq), h2.2.2⟩
theorem md_cause_cs {S : MS} {v : Int32} (h : ¬ S.1 67 < 0) : cs_same S (md_cause S v) := by
  unfold md_cause
  split
  · exact ⟨fun _ _ => rfl, fun _ _ => rfl, h⟩
  · rename_i q
    refine ⟨fun k hk => by rw [ml_sa_f, ml_sf_f, if_neg hk], fun k hk => funext fun j => by rw [ml_sa_a, if_neg hk]; rfl, ?_⟩
    rw [ml_sa_f, ml_sf_f, if_pos rfl]
    obtain ⟨t, ht, e⟩ := nI_of h
    rw [e] at q ⊢
    have : t < 60000 := by
      rcases Nat.lt_or_ge t 60000 with u | u
      · exact u
      · exact absurd ((nI_leI (by decide) ht).2 u) q
    rw [nI_1]
    exact nI_pos (by omega)
def pcs_o (S : MS) (x e : Nat) : Int32 := S.2 59 (S.2 62 (S.2 61 x + S.2 37 e).toNatClampNeg).toNatClampNeg + S.2 13 (S.2 33 e).toNatClampNeg + 0
def pcs_1 (S : MS) (x e : Nat) : MS := if S.2 32 e = 2 then md_cause S (S.2 59 x + S.2 33 e) else S
def pcs_2 (S : MS) (x root e : Nat) : MS := if S.2 32 e = 3 ∧ ¬ e = root then md_cause S (pcs_o S x e) else S
def pcs_3 (S : MS) (x e : Nat) : MS := if S.2 32 e = 26 then md_cause S (S.2 59 x + S.2 33 e / 2) else S
def pcs_4 (S : MS) (x e : Nat) : MS := if S.2 32 e = 25 then md_cause S (S.2 59 x + S.2 43 (S.2 34 e).toNatClampNeg / 2) else S
def pcs_e (S : MS) (x root e : Nat) : MS := if S.2 44 e = nI root then pcs_4 (pcs_3 (pcs_2 (pcs_1 S x e) x root e) x e) x e else S
def pcs (x root : Nat) : Nat → Nat → MS → MS
  | 0, _, S => S
  | M + 1, e, S => pcs x root M (e + 1) (pcs_e S x root e)
/-- what an expression asks -/
def pcs_H (S : MS) (x root e : Nat) : Prop := S.2 44 e = nI root → (S.2 32 e = 3 → ¬ e = root → ∃ s t y g, S.2 61 x = nI s ∧ S.2 37 e = nI t ∧ s + t < 3200 ∧ S.2 62 (s + t) = nI y ∧ y < 3200 ∧ S.2 33 e = nI g ∧ g < 60) ∧ (S.2 32 e = 25 → ∃ k, S.2 34 e = nI k ∧ k < 66000)
theorem pcs_H.cs {S S' : MS} {x root e : Nat} (h : pcs_H S x root e) (hs : cs_same S S') : pcs_H S' x root e := by
  unfold pcs_H
  rw [hs.2.1 44 (by omega), hs.2.1 32 (by omega), hs.2.1 61 (by omega), hs.2.1 37 (by omega), hs.2.1 62 (by omega), hs.2.1 33 (by omega), hs.2.1 34 (by omega)]
  exact h
section
variable {z : MZ} {jm : MJ} {x root : Nat}
theorem pcs_V (hx : x < 3200) (hr : root < 66000) (hd : 2 ≤ jm.1) : ∀ M e S E, e + M = root + 1 → ¬ S.1 67 < 0 → (∀ e2, e ≤ e2 → e2 ≤ root → pcs_H S x root e2) → (cs_same S (pcs x root M e S) → ∀ G, jm.2.2.1 none (pcs x root M e S) G) → ml_V z mX6_partCauses jm 7 [(0, vR (some z.2.1)), (1, vI (nI x)), (2, vI (nI root)), (3, vI (nI e))] [] S E jm.2.1 := by
  intro M
  induction M with
  | zero =>
    intro e S E he h67 hH hP
    exact mbpartCauses_7 (fun _ => mbpartCauses_149 (fun G _ => hP ⟨fun _ _ => rfl, fun _ _ => rfl, h67⟩ G)) (fun q => absurd (nI_lt (by omega) (by omega)) q)
  | succ M ih =>
    intro e S E he h67 hH hP
    have ce : (nI e).toNatClampNeg = e := nI_clamp (by omega)
    have cx : (nI x).toNatClampNeg = x := nI_clamp (by omega)
    have ve : vp_in (nI e) 66000 := vp_in_nI (by omega) (by decide)
    have vx : vp_in (nI x) 3200 := vp_in_nI hx (by decide)
    have go : ∀ S' E, cs_same S S' → pcs_e S x root e = S' → ml_V z mX6_partCauses jm 143 [(0, vR (some z.2.1)), (1, vI (nI x)), (2, vI (nI root)), (3, vI (nI e))] [] S' E jm.2.1 := by
      intro S' E hs hq
      refine mbpartCauses_143 ?_
      rw [nI_1]
      rw [pcs, hq] at hP
      exact ih (e + 1) S' _ (by omega) hs.2.2 (fun e2 a b => (hH e2 (by omega) b).cs hs) (fun h G => hP (hs.tr h) G)
    refine mbpartCauses_7 (fun q => absurd ((nI_ltI (by omega) (by omega)).1 q) (by omega)) (fun _ => ?_)
    refine mbpartCauses_12 ve (fun q => ?_) (fun q => ?_)
    · rw [ce] at q
      obtain ⟨H3, H25⟩ := hH e (Nat.le_refl e) (by omega) q
      have rf : cs_same S S := ⟨fun _ _ => rfl, fun _ _ => rfl, h67⟩
      have s4 : ∀ S3 E, cs_same S S3 → pcs_3 (pcs_2 (pcs_1 S x e) x root e) x e = S3 → ml_V z mX6_partCauses jm 108 [(0, vR (some z.2.1)), (1, vI (nI x)), (2, vI (nI root)), (3, vI (nI e))] [] S3 E jm.2.1 := by
        intro S3 E hs hq
        have ee : pcs_e S x root e = pcs_4 S3 x e := by rw [pcs_e, if_pos q, hq]
        refine mbpartCauses_108 ve (fun u => ?_) (fun u => ?_)
        · rw [ce] at u
          exact go _ _ hs (by rw [ee, pcs_4, if_neg u])
        · rw [ce] at u
          obtain ⟨k, k1, k2⟩ := H25 (by rw [← hs.2.1 32 (by omega)]; exact u)
          refine mbpartCauses_119 vx ve (by rw [ce, hs.2.1 34 (by omega), k1]; exact vp_in_nI k2 (by decide)) (by decide) (X6_cause_C (d := 0) hs.2.2) (by omega) (Nat.zero_le _) (ml_kr0 fun σ' g => ?_) ml_no
          subst g
          rw [cx, ce]
          exact go _ _ (hs.tr (md_cause_cs hs.2.2)) (by rw [ee, pcs_4, if_pos u])
      have s3 : ∀ S2 E, cs_same S S2 → pcs_2 (pcs_1 S x e) x root e = S2 → ml_V z mX6_partCauses jm 78 [(0, vR (some z.2.1)), (1, vI (nI x)), (2, vI (nI root)), (3, vI (nI e))] [] S2 E jm.2.1 := by
        intro S2 E hs hq
        refine mbpartCauses_78 ve (fun u => ?_) (fun u => ?_)
        · rw [ce] at u
          exact s4 _ _ hs (by rw [hq, pcs_3, if_neg u])
        · rw [ce] at u
          refine mbpartCauses_89 vx ve (by decide) (X6_cause_C (d := 0) hs.2.2) (by omega) (Nat.zero_le _) (ml_kr0 fun σ' g => ?_) ml_no
          subst g
          rw [cx, ce]
          exact s4 _ _ (hs.tr (md_cause_cs hs.2.2)) (by rw [hq, pcs_3, if_pos u])
      have s2 : ∀ S1 E, cs_same S S1 → pcs_1 S x e = S1 → ml_V z mX6_partCauses jm 52 [(0, vR (some z.2.1)), (1, vI (nI x)), (2, vI (nI root)), (3, vI (nI e))] [] S1 E jm.2.1 := by
        intro S1 E hs hq
        refine mbpartCauses_52 ve (fun u => ?_) (fun u => ?_)
        · rw [ce] at u
          exact s3 _ _ hs (by rw [hq, pcs_2, if_neg (fun w => u w.1)])
        · rw [ce] at u
          refine mbpartCauses_62 (fun w => ?_) (fun w => ?_)
          · have w' : e = root := (nI_eq (by omega) (by omega)).1 w
            exact s3 _ _ hs (by rw [hq, pcs_2, if_neg (fun y => y.2 w')])
          · have w' : ¬ e = root := fun y => w (by rw [y])
            obtain ⟨s, t, y, g, b1, b2, b3, b4, b5, b6, b7⟩ := H3 (by rw [← hs.2.1 32 (by omega)]; exact u) w'
            rw [← hs.2.1 61 (by omega)] at b1
            rw [← hs.2.1 37 (by omega)] at b2
            rw [← hs.2.1 62 (by omega)] at b4
            rw [← hs.2.1 33 (by omega)] at b6
            refine mbpartCauses_67 (X6_output_C (d := 1) hx (by omega) b1 b2 b3 b4 b5 b6 b7 (Nat.le_refl 1)) hd (Nat.zero_le _) (ml_krv fun σ' gg => ?_) ml_no
            subst gg
            refine mbpartCauses_75 (X6_cause_C (d := 0) hs.2.2) (by omega) (Nat.zero_le _) (ml_kr0 fun σ2 gg => ?_) ml_no
            subst gg
            refine s3 _ _ (hs.tr (md_cause_cs hs.2.2)) ?_
            rw [hq, pcs_2, if_pos ⟨u, w'⟩, pcs_o, b1, b2, nI_add, nI_clamp (n := s + t) (by omega), b4, nI_clamp (n := y) (by omega), b6, nI_clamp (n := g) (by omega)]
      refine mbpartCauses_25 ve (fun u => ?_) (fun u => ?_)
      · rw [ce] at u
        exact s2 _ _ rf (by rw [pcs_1, if_neg u])
      · rw [ce] at u
        refine mbpartCauses_35 vx ve (X6_cause_C (d := 0) h67) (by omega) (Nat.zero_le _) (ml_kr0 fun σ' g => ?_) ml_no
        subst g
        rw [cx, ce]
        exact s2 _ _ (md_cause_cs h67) (by rw [pcs_1, if_pos u])
    · rw [ce] at q
      exact mbpartCauses_22 (go _ _ ⟨fun _ _ => rfl, fun _ _ => rfl, h67⟩ (by rw [pcs_e, if_neg q]))
end
