/-! THE COMPONENT's PARSER: an equation's left sides in brackets -/
set_option maxRecDepth 100000
section
variable {q : PZ} {S S' S0 S1 : MS} {X : Nat → Nat} {G G' G00 G1 : GH} {lo : Nat} {P : Option WV → GH → Prop} {r : PE} {D B cs ss x l L : Nat} {pl : Int32}
/-- one more -/
theorem X3_eq_left {c1 m cap r2 : Nat} {r9 : PE} (hcmp : cmp_o q.1.1) (hD : 27 ≤ D) (hp1 : pst q lo c1 S1 X G1) (hE1 : pn_E (rz_n q.1) c1 S1) (hK1 : ∀ v, pr_a S1 ≤ v → v < pr_v S1 → (qK q v = 0 ↔ v < pr_a S1 + pr_i S1)) (he1 : eqp q S1 G G1 x pl l m cap L) (hl : l + m = pr_l S1) (f00 : rx q.1 no9 G00 G) (k00 : rkk q.1 G00 G) (f1 : rx q.1 no9 G G1) (k1 : rkk q.1 G G1) (h : pe_left (rz_T q.1) (rz_n q.1) c1 S1 = some r9) (hx : ∀ k, r9 = .inl k → r = .inl k) (hb : 10 + al_b m cap ≤ r2)
    (K : ∀ G5 S5, r9 = .inr (0, lx_next (rz_T q.1) (rz_n q.1) c1, S5) → pl_R (rz_n q.1) S1 c1 (lx_next (rz_T q.1) (rz_n q.1) c1) S5 → pr_l S5 = pr_l S1 + 1 → pst q lo (lx_next (rz_T q.1) (rz_n q.1) c1) S5 X G5 → eqp q S5 G G5 x pl l (m + 1) (al_c m cap) L → rx q.1 no9 G G5 → rkk q.1 G G5 → c1 + 1 ≤ lx_next (rz_T q.1) (rz_n q.1) c1 → wk_V q.1.1 mX3_equation (D, B, P, xq_X q G00 r, cs, ss) 37 [(0, vR (some q.1.2.1)), (1, vR (some x))] [vI 1] G5 (r2 - 10 - al_b m cap)) :
    wk_V q.1.1 mX3_equation (D, B, P, xq_X q G00 r, cs, ss) 26 [(0, vR (some q.1.2.1)), (1, vR (some x))] [] G1 r2 := by
  have kR1 := hp1.1.1.1.1
  have kB1 := hp1.1.1.2.1.1
  have f01 : rx q.1 no9 G00 G1 := f00.tr f1 (fun _ _ u => u)
  have k01 : rkk q.1 G00 G1 := fun k hk => (k1 k hk).trans (k00 k hk)
  refine blX3_equation_26 rfl he1.1.1.1 kR1 (X3_defined_C (d := 26) hp1 hE1.1 hK1 hcmp (Nat.le_refl 26)) (by show 26 + 1 ≤ D; omega) (by omega) ?_ (fun E a G' u => wk_out0 rfl ?_)
  · rintro v G4 ⟨hdf, rfl, hp4, f4, k4⟩
    have hlf := hdf.left
    rw [hlf] at h
    obtain ⟨-, q1, q2, hR⟩ := pe_left_R hlf hE1
    obtain ⟨he4, hr4⟩ := he1.rx f4 kR1 kB1
    obtain ⟨d1, d2, d3⟩ := hdf
    have hfl := pr_fv_le (c := c1) hE1.1
    have hvv := hE1.1.N.2.2.2.1
    have hll := hE1.2.2.2.2.2.2.2.2.1
    have hnn := hE1.2.2.1
    have hcn := hE1.2.1
    refine blX3_equation_34 he1.1.2.1.1 he4.1.2.2.1.1 (eqp_add (d := 6) hp4 he4 hl ⟨hfl, d2⟩ (by omega) (by omega) (f1.tr f4 (fun _ _ u => u)) (fun k hk => (k4 k hk).trans (k1 k hk)) (Nat.le_refl 6)) (by show 6 + 1 ≤ D; omega) (by omega) ?_ (fun _ _ _ u => absurd u id)
    rintro w G5 ⟨rfl, hp5, he5, hr5, f5, k5⟩
    exact K G5 _ (Option.some.inj h).symm hR q2 hp5 he5 f5 k5 q1
  · obtain ⟨k, u1, u2⟩ := u
    exact ⟨k, c1, hx _ (by rw [u1.left] at h; exact (Option.some.inj h).symm), u2.of f01 k01 (fun _ _ u => u)⟩
theorem X3_eq_lefts {A c0 : Nat} {r9 : PE} (hcmp : cmp_o q.1.1) (hD : 27 ≤ D) (hK0 : ∀ v, pr_a S0 ≤ v → v < pr_v S0 → (qK q v = 0 ↔ v < pr_a S0 + pr_i S0)) (hl0 : pr_l S0 = l) (f00 : rx q.1 no9 G00 G) (k00 : rkk q.1 G00 G) (hx : ∀ k, r9 = .inl k → r = .inl k)
    (K : ∀ c2 S2 G2 m cap r3, r9 = .inr (0, c2, S2) → pl_R (rz_n q.1) S0 c0 c2 S2 → 1 ≤ m → l + m = pr_l S2 → pst q lo c2 S2 X G2 → eqp q S2 G G2 x pl l m cap L → rx q.1 no9 G G2 → rkk q.1 G G2 → 20 * (rz_n q.1 - c2) + 20 + A ≤ r3 → wk_V q.1.1 mX3_equation (D, B, P, xq_X q G00 r, hp_cs G, hp_ss G) 48 [(0, vR (some q.1.2.1)), (1, vR (some x))] [] G2 r3) :
    ∀ f' c1 S1 G1 m cap r2, pe_lefts (rz_T q.1) (rz_n q.1) f' c1 S1 = some r9 → pst q lo c1 S1 X G1 → pl_R (rz_n q.1) S0 c0 c1 S1 → eqp q S1 G G1 x pl l m cap L → l + m = pr_l S1 → 1 ≤ m → cap ≤ m + m / 2 + 10 → rx q.1 no9 G G1 → rkk q.1 G G1 → 20 * (rz_n q.1 - c1) + 20 + (10 + 2 * m - cap) + A ≤ r2 →
      wk_V q.1.1 mX3_equation (D, B, P, xq_X q G00 r, hp_cs G, hp_ss G) 37 [(0, vR (some q.1.2.1)), (1, vR (some x))] [vI 1] G1 r2 := by
  intro f'
  induction f' with
  | zero => intro c1 S1 G1 m cap r2 h; cases h
  | succ f' ih =>
    intro c1 S1 G1 m cap r2 h hp1 hR he1 hl hm1 hcap f1 k1 hr2
    unfold pe_lefts at h
    have kR1 := hp1.1.1.1.1
    have hlc := he1.1.2.2.2.1.1
    refine wk_less hr2 ?_
    refine wk_have fun hA hB => ?_
    refine blX3_equation_37 kR1 (X3_skip_C (k := 44) (d := 8) hp1.1 (by decide) (Nat.le_refl 8)) (by show 8 + 1 ≤ D; omega) (by omega) ?_ (fun _ _ _ u => absurd u id)
    rintro v G3 (⟨hq, rfl, t1, t2⟩ | ⟨hq, rfl, rfl⟩)
    · rw [if_pos hq] at h
      obtain ⟨tk1, tk2⟩ := lx_tk (T := rz_T q.1) (n := rz_n q.1) (c := c1) (by rw [hq]; decide)
      obtain ⟨hp3, pn3⟩ := hp1.scan t1 t2
      obtain ⟨he3, hr3⟩ := he1.rx pn3.2.2.2.2.1 kR1 hp1.1.1.2.1.1
      obtain ⟨r8, h8, hx8, h⟩ := pr_b_some h
      have hE1 := hR.1
      have sbR := hR.2.2.1
      have hE3 : pn_E (rz_n q.1) (lx_next (rz_T q.1) (rz_n q.1) c1) S1 := by
        obtain ⟨hV, b1, b2, b3, b4, b5, b6, b7, b8, b9⟩ := hE1
        exact ⟨hV, tk2, b2, b3, by omega, b5, by omega, b7, by omega, b9⟩
      have hK1 : ∀ v, pr_a S1 ≤ v → v < pr_v S1 → (qK q v = 0 ↔ v < pr_a S1 + pr_i S1) := by rw [sbR.a, sbR.v, sbR.i]; exact hK0
      have hpot := al_pot (n := m) (c := cap) hlc
      obtain ⟨hcap2, hcap3⟩ := al_cap hlc hcap
      refine blX3_equation_45 (fun _ => ?_) (fun u => absurd u (by decide))
      refine X3_eq_left hcmp hD hp3 hE3 hK1 he3 hl f00 k00 (f1.tr pn3.2.2.2.2.1 (fun _ _ u => u)) (fun k hk => (pn3.2.2.2.2.2 k hk).trans (k1 k hk)) h8 (fun k e => hx k (hx8 k e)) (by omega) (fun G5 S5 e5 hR5 hl5 hp5 he5 f5 k5 tk5 => ?_)
      have hcn5 := hp5.1.2.1
      have hR1' : pl_R (rz_n q.1) S0 c0 (lx_next (rz_T q.1) (rz_n q.1) c1) S1 := by
        obtain ⟨z1, z2, z3⟩ := hR
        exact ⟨hE3, by omega, z3⟩
      exact ih _ S5 G5 (m + 1) (al_c m cap) _ (h _ _ _ e5) hp5 (hR1'.tr hR5) he5 (by omega) (by omega) hcap2 f5 k5 (by omega)
    · rw [if_neg hq] at h
      refine blX3_equation_45 (fun u => absurd rfl u) (fun _ => ?_)
      refine wk_bk hA hB cb.rf (u := 0) (r' := 20 * (rz_n q.1 - c1) + 20 + A) (by omega) ?_
      exact K c1 S1 _ m cap _ (Option.some.inj h).symm hR hm1 hl hp1 he1 f1 k1 (Nat.le_refl _)
end
