/-! THE COMPONENT's PARSER: the names of a group -/
set_option maxRecDepth 100000
section
variable {q : PZ} {S S0 : MS} {X : Nat → Nat} {G G0 G' G00 : GH} {lo b : Nat}
theorem vs_nl {T : Nat → Int32} {n c i : Nat} (hT : S.2 0 = T) (hk : lx_kind T n c = 1) (hn : n ≤ 5000) : lx_vs S n c i = decide (nlv T S i = wd T c (lx_end T n c)) := by
  unfold lx_vs nlv
  rw [hT]
  exact (decide_eq_decide.2 (nl_sp hk hn)).symm
/-- found, or not, among all variables -/
theorem fv_iff {T : Nat → Int32} {n c : Nat} (hT : S.2 0 = T) (hk : lx_kind T n c = 1) (hn : n ≤ 5000) (hab : pr_a S ≤ pr_v S) : (pr_fv n S c < pr_v S ↔ ∃ i, pr_a S ≤ i ∧ i < pr_v S ∧ nlv T S i = wd T c (lx_end T n c)) := by
  obtain ⟨g1, g2, g3, g4⟩ := lx_find_spec (P := lx_vs S n c) (b := pr_v S) (pr_v S) (pr_a S) (by omega) hab
  constructor
  · intro h
    have := g4 h
    rw [vs_nl hT hk hn] at this
    exact ⟨_, g1, h, of_decide_eq_true this⟩
  · rintro ⟨i, h1, h2, h3⟩
    refine Decidable.byContradiction fun u => ?_
    have h5 : i < lx_find (lx_vs S n c) (pr_a S) (pr_v S) := by
      have : ¬ lx_find (lx_vs S n c) (pr_a S) (pr_v S) < pr_v S := u
      omega
    have := g3 i h1 h5
    rw [vs_nl hT hk hn, decide_eq_true h3] at this
    cases this
theorem pst.none {c : Nat} (h : pst q lo c S X G) {own : Nat → Prop} (hlo : lo = pr_p S) (hf : cf own G G') (ho : ∀ y, own y → ok9 (hp_kd G y)) : pst q lo c S X G' := h.wr hf ho (fun e a b => by omega)
theorem X3_names_L {D B LN W c0 : Nat} {kd : Int32} {P : Option WV → GH → Prop} {PX : String → Nat → GH → Prop} {cs ss : Nat} {r r1 : PE} (hcmp : cmp_o q.1.1) (hD : 27 ≤ D) (hV : pe_V (rz_n q.1) S0) (hb : b = pr_v S0) (hlo : lo = pr_p S0) (hPX : ∀ E a G', xq_X q G00 r E a G' → PX E a G') (hx : ∀ k, r1 = .inl k → r = .inl k)
    (K : ∀ c1 S1 G k cn nm r2, r1 = .inr (0, c1, S1) → pst q lo c1 S0 X G → pin q S0 X G00 S0 X G → gnm q S1 b G00 G LN k cn nm → pg_same b S0 S1 → pr_v S1 = b + k → 0 < k → b + k ≤ pr_a S0 + 99 → pg_I (rz_n q.1) c1 S1 → c0 + 1 ≤ c1 → 20 * (rz_n q.1 - c1) + 26 + W ≤ r2 → wk_V q.1.1 mX3_group (D, B, P, PX, cs, ss) 110 [(0, vR (some q.1.2.1)), (1, vI kd), (3, vR (some LN))] [] G r2) :
    ∀ f c S G k cn nm r2, pst q lo c S0 X G → pin q S0 X G00 S0 X G → gnm q S b G00 G LN k cn nm → pg_same b S0 S → pr_v S = b + k → b + k ≤ pr_a S0 + 99 → pg_I (rz_n q.1) c S → c0 ≤ c → pg_names (rz_T q.1) (rz_n q.1) f c S = some r1 → 20 * (rz_n q.1 - c) + 30 + W ≤ r2 →
      wk_V q.1.1 mX3_group (D, B, P, PX, cs, ss) 19 [(0, vR (some q.1.2.1)), (1, vI kd), (2, vI (nI (b - pr_a S0))), (3, vR (some LN))] [] G r2 := by
  intro f
  induction f with
  | zero => intro c S G k cn nm r2 _ _ _ _ _ _ _ _ h; cases h
  | succ f ih =>
    intro c S G k cn nm r2 hp pn hN hS hv h99 hI hc0 h hr2
    obtain ⟨v1, v2, v3, v4, v5, v6, v7, v8, v9⟩ := hV.N
    obtain ⟨hVS, hvc, hcn, hn⟩ := id hI
    have hT0 := hp.2.2.2
    have hT : S.2 0 = rz_T q.1 := by rw [hS.2.1 0 (by decide)]; exact hT0
    have ha := hS.a
    unfold pg_names at h
    refine blX3_group_19 hp.1.1.1.1 (X3_isName_C (d := 5) hp.1 hp.2.1.1.1 (Nat.le_refl 5)) (by show 5 + 1 ≤ D; omega) (Nat.zero_le _) ?_ (fun _ _ _ u => absurd u id)
    rintro v G1 ⟨rfl, r3, r4⟩
    obtain ⟨hp1, pn1⟩ := hp.scan r3 r4
    have n1 := pn.tr pn1
    have hN1 := hN.rx hp.1.1.1.1 hp.1.1.2.1.1 pn1.2.2.2.2.1
    refine blX3_group_23 (fun u => ?_) (fun u => ?_)
    · have hnm := lx_b1 u
      rw [if_neg (fun u => u hnm)] at h
      obtain ⟨y1, y2, y3⟩ := hp1.2.1.2.1
      obtain ⟨hv', w1, w2⟩ := hp1.2.1.2.2.2.1
      obtain ⟨wa, wa1, wa2⟩ := hp1.1.2.2.2.2.2.1 hnm.1
      refine blX3_group_31 hp1.1.1.1.1 y3 y1 w1 w2.1.1 (by rw [wa1]; exact X3_getv (d := 25) hp1 wa2 hnm.1 w1 hcmp (Nat.le_refl 25)) (by show 25 + 1 ≤ D; omega) (Nat.zero_le _) ?_ (fun _ _ _ u => absurd u id)
      rintro v G2 ⟨rfl, hp2, pn2⟩
      have n2 := n1.tr pn2
      have hN2 := hN1.rx hp1.1.1.1.1 hp1.1.1.2.1.1 pn2.2.2.2.2.1
      have kR2 := hp2.1.1.1.1
      have hfi := fv_iff (S := S) (c := c) hT hnm.1 hn (by rw [ha, hv]; omega)
      have hf0 := fv_iff (S := S0) (c := c) hT0 hnm.1 hn (by omega)
      have dup : ∀ r9, pr_fv (rz_n q.1) S c < pr_v S → wk_V q.1.1 mX3_group (D, B, P, PX, cs, ss) 56 [(0, vR (some q.1.2.1))] [] G2 r9 := by
        intro r9 hlt
        rw [if_pos hlt] at h
        refine blX3_group_56 kR2 (by rw [hp2.1.2.2.1]; exact X3_fail_C (d := 0) hp2.1.1) (by show 0 + 1 ≤ D; omega) (Nat.zero_le _) ?_ (fun _ _ _ u => absurd u id)
        rintro v G3 ⟨rfl, g1, g2⟩
        refine blX3_group_65 rfl (by rw [g2]; decide) (by rw [g2]; decide) (wk_out0 rfl ?_)
        rw [g2]
        exact hPX _ _ _ (g1.X n2 (by rw [hx _ (Option.some.inj h).symm]))
      by_cases hlt0 : pr_fv (rz_n q.1) S0 c < pr_v S0
      · rw [if_pos hlt0]
        refine blX3_group_45 (fun o9 _ => dup _ (hfi.2 ?_)) (fun u => by cases u)
        obtain ⟨i, i1, i2, i3⟩ := hf0.1 hlt0
        exact ⟨i, by rw [ha]; exact i1, by omega, by rw [nlv_old hS (by omega)]; exact i3⟩
      · rw [if_neg hlt0]
        refine blX3_group_45 (fun o9 u => by cases u) (fun _ => ?_)
        obtain ⟨wb, wb1, wb2⟩ := hp2.1.2.2.2.2.2.1 hnm.1
        refine blX3_group_48 kR2 (X3_listed_C (d := 3) kR2 wb1 wb2.1 hN2.1 (fun i hi => (hN2.2.1 i hi).1) (Nat.le_refl 3)) (by show 3 + 1 ≤ D; omega) (Nat.zero_le _) ?_ (fun _ _ _ u => absurd u id)
        rintro v G3 ⟨hl, rfl⟩
        rcases hl with ⟨rfl, i, i1, i2⟩ | ⟨rfl, hno⟩
        · exact blX3_group_53 (fun u => absurd u (by decide)) (fun _ => dup _ (hfi.2 ⟨b + i, by rw [ha]; omega, by omega, i2⟩))
        · have hlt : ¬ pr_fv (rz_n q.1) S c < pr_v S := fun u => by
            obtain ⟨i, i1, i2, i3⟩ := hfi.1 u
            rw [ha] at i1
            rcases Nat.lt_or_ge i b with w | w
            · exact hlt0 (hf0.2 ⟨i, i1, by omega, by rw [← nlv_old hS w]; exact i3⟩)
            · exact hno (i - b) (by omega) (by rw [show b + (i - b) = i by omega]; exact i3)
          rw [if_neg hlt] at h
          refine blX3_group_53 (fun _ => ?_) (fun u => absurd rfl u)
          refine blX3_group_66 rfl hN2.1.1.1 (J5_size_C (d := 0) hN2.1) (by show 0 + 1 ≤ D; omega) (Nat.zero_le _) ?_ (fun _ _ _ u => absurd u id)
          rintro v G4 ⟨rfl, rfl⟩
          have e99 : (nI (b - pr_a S0) + nI k = 99) ↔ pr_v S = pr_a S + 99 := by
            rw [nI_add, show (99 : Int32) = nI 99 from rfl, nI_eq (by omega) (by decide), ha]
            omega
          refine blX3_group_71 (fun u => ?_) (fun u => ?_)
          · have n99 : ¬ pr_v S = pr_a S + 99 := fun w => u (e99.2 w)
            rw [if_neg n99] at h
            rw [ha] at n99
            have hlc := hN2.1.2.1.1
            have hbw := al_bw hlc
            have kwb : hp_kd G4 wb = 26 := wb2.1.1
            refine blX3_group_87 kR2 rfl hN2.1.1.1 (by rw [wb1]; exact J5_add_C (d := 6) hN2.1 hp2.2.1.1.2.1 (fun y hy => by rw [← Option.some.inj hy, kwb]; decide) (by omega) (Nat.le_refl 6)) (by show 6 + 1 ≤ D; omega) (by omega) ?_ (fun _ _ _ u => absurd u id)
            rintro v G5 ⟨rfl, a1, a2, a3⟩
            have kL := hN2.1.1.1
            have k9 : ∀ y, al_w G4 LN k cn y → ok9 (hp_kd G4 y) := by
              rintro y (u | ⟨-, -, -, u⟩)
              · rw [u, kL]; exact Or.inl ⟨by decide, by decide⟩
              · exact Or.inr (Or.inl u)
            have hfr : ∀ y, al_w G4 LN k cn y → hp_kd G00 y = 0 := by
              rintro y (u | ⟨u1, u2, u3, u4⟩)
              · rw [u]; exact hN2.2.2.1.1
              · exact (hN2.2.2.1.2 y u2).elim (fun e => by omega) id
            have hrx := rx_of (z := q.1) a2 (fun y u => by have := k9 y u; unfold ok9 at this; omega)
            have nR : ¬ al_w G4 LN k cn q.1.2.1 := fun u => by have := k9 _ u; unfold ok9 at this; omega
            have hp5 := hp2.none hlo a2 k9
            have n5 : pin q S0 X G00 S0 X G5 := ⟨pe_same.rf, Nat.le_refl _, fun _ _ => rfl, fun j a b => absurd b (by omega), n2.2.2.2.2.1.tr hrx (fun y hy u => absurd (hfr y u) hy), fun j hj => by rw [a2.r (by rw [kR2]; decide) nR]; exact n2.2.2.2.2.2 j hj⟩
            -- the new state
            obtain ⟨tk1, tk2⟩ := lx_tkn (T := rz_T q.1) (n := rz_n q.1) (c := c) hnm
            have hle := lx_end_le (T := rz_T q.1) hcn
            have hS' := hS.tr (pg_add_same (S := S) (v := pr_v S) (c := c) (e := lx_end (rz_T q.1) (rz_n q.1) c)) (by omega)
            have hv' := pg_add_v (S := S) (v := pr_v S) (c := c) (e := lx_end (rz_T q.1) (rz_n q.1) c) (by omega)
            have hI' := pg_add_I (T := rz_T q.1) hI (by omega) hT
            have ha' : pr_a (pg_add S (pr_v S) c (lx_end (rz_T q.1) (rz_n q.1) c)) = pr_a S0 := hS'.a
            have nlo : ∀ i, i < pr_v S → nlv (rz_T q.1) (pg_add S (pr_v S) c (lx_end (rz_T q.1) (rz_n q.1) c)) i = nlv (rz_T q.1) S i := fun i hi => nlv_old pg_add_same hi
            have nln : nlv (rz_T q.1) (pg_add S (pr_v S) c (lx_end (rz_T q.1) (rz_n q.1) c)) (pr_v S) = wd (rz_T q.1) c (lx_end (rz_T q.1) (rz_n q.1) c) := by
              unfold nlv
              rw [pg_add_2, if_neg (by omega), if_neg (by omega), if_neg (by omega), if_pos ⟨rfl, rfl⟩, pg_add_2, if_neg (by omega), if_neg (by omega), if_pos ⟨rfl, rfl⟩, nI_clamp (by omega), nI_clamp (by omega), show c + (lx_end (rz_T q.1) (rz_n q.1) c - c) = lx_end (rz_T q.1) (rz_n q.1) c by omega]
            have hN5 : gnm q (pg_add S (pr_v S) c (lx_end (rz_T q.1) (rz_n q.1) c)) b G00 G5 LN (k + 1) (al_c k cn) (fun i => if i = k then wb else nm i) := by
              refine ⟨a1.cg (fun i hi => ?_), fun i hi => ?_, ⟨hN2.2.2.1.1, fun o ho => ?_⟩, fun i j h1 h2 h3 h4 => ?_⟩
              · show some (if i = k then wb else nm i) = if i = k then some wb else some (nm i)
                split <;> rfl
              · show st _ _ (if i = k then wb else nm i) _
                by_cases e : i = k
                · rw [if_pos e, e, ← hv, nln]
                  exact hrx.2.2 _ _ wb2
                · rw [if_neg e, nlo (b + i) (by omega)]
                  exact hrx.2.2 _ _ (hN2.2.1 i (by omega))
              · rcases a3 o ho with ⟨u1, u2⟩ | u
                · exact (hN2.2.2.1.2 o u2).elim (fun e => by omega) Or.inr
                · exact Or.inr (n2.2.2.2.2.1.1.fresh u)
              · rw [ha'] at h1
                by_cases e : j = pr_v S
                · rw [e, nln, nlo i (by omega)]
                  exact fun u => hlt (hfi.2 ⟨i, by rw [ha]; exact h1, by omega, u⟩)
                · rw [nlo i (by omega), nlo j (by omega)]
                  exact hN2.2.2.2 i j (by rw [ha]; exact h1) h2 h3 (by omega)
            refine blX3_group_95 hp5.1.1.1.1 (X3_scan_A (d := 7) hp5.1 (Nat.le_refl 7)) (by show 7 + 1 ≤ D; omega) (by omega) ?_ (fun _ _ _ u => absurd u id)
            rintro v G6 ⟨rfl, t1, t2⟩
            obtain ⟨hp6, pn6⟩ := hp5.scan t1 t2
            have n6 := n5.tr pn6
            have hN6 := hN5.rx hp5.1.1.1.1 hp5.1.1.2.1.1 pn6.2.2.2.2.1
            refine wk_have fun hA hB => ?_
            refine blX3_group_100 hp6.1.1.1.1 (X3_skip_C (k := 44) (d := 8) hp6.1 (by decide) (Nat.le_refl 8)) (by show 8 + 1 ≤ D; omega) (by omega) ?_ (fun _ _ _ u => absurd u id)
            rintro v G7 (⟨hq, rfl, t3, t4⟩ | ⟨hq, rfl, rfl⟩)
            · rw [if_pos hq] at h
              obtain ⟨tk3, tk4⟩ := lx_tk (T := rz_T q.1) (n := rz_n q.1) (c := lx_next (rz_T q.1) (rz_n q.1) c) (by rw [hq]; decide)
              obtain ⟨hp7, pn7⟩ := hp6.scan t3 t4
              refine blX3_group_107 (fun _ => ?_) (fun u => absurd u (by decide))
              exact ih _ _ G7 (k + 1) _ _ _ hp7 (n6.tr pn7) (hN6.rx hp6.1.1.1.1 hp6.1.1.2.1.1 pn7.2.2.2.2.1) hS' (by rw [hv']; omega) (by omega) ⟨hI'.1, by have := hI'.2.1; omega, tk4, hn⟩ (by omega) h (by omega)
            · rw [if_neg hq] at h
              refine blX3_group_107 (fun u => absurd rfl u) (fun _ => ?_)
              refine wk_bk hA hB cb.rf (u := 0) (r' := 20 * (rz_n q.1 - lx_next (rz_T q.1) (rz_n q.1) c) + 26 + W) (by omega) ?_
              exact K _ _ _ (k + 1) _ _ _ (Option.some.inj h).symm hp6 n6 hN6 hS' (by rw [hv']; omega) (by omega) (by omega) hI' (by omega) (Nat.le_refl _)
          · have y99 := e99.1 u
            rw [if_pos y99] at h
            refine blX3_group_77 kR2 (by rw [hp2.1.2.2.1]; exact X3_fail_C (d := 0) hp2.1.1) (by show 0 + 1 ≤ D; omega) (Nat.zero_le _) ?_ (fun _ _ _ u => absurd u id)
            rintro v G5 ⟨rfl, g1, g2⟩
            refine blX3_group_86 rfl (by rw [g2]; decide) (by rw [g2]; decide) (wk_out0 rfl ?_)
            rw [g2]
            exact hPX _ _ _ (g1.X n2 (by rw [hx _ (Option.some.inj h).symm]))
    · have hnm := lx_b0.1 u
      rw [if_pos hnm] at h
      refine blX3_group_26 hp1.1.1.1.1 (X3_misfit_C (d := 1) hp1.1 (Nat.le_refl 1)) (by show 1 + 1 ≤ D; omega) (Nat.zero_le _) ?_ (fun _ _ _ u => absurd u id)
      rintro v G2 ⟨rfl, g1, g2⟩
      refine blX3_group_30 rfl (by rw [g2]; decide) (by rw [g2]; decide) (wk_out0 rfl ?_)
      rw [g2]
      exact hPX _ _ _ (g1.X n1 (by rw [hx _ (Option.some.inj h).symm]))
end
