/-! THE COMPONENT's PARSER: group -/
set_option maxRecDepth 100000
section
variable {q : PZ} {S S2 S' S0 : MS} {X : Nat → Nat} {G G' G00 : GH} {lo b : Nat}
theorem isW_ib {T : Nat → Int32} {n c : Nat} (hn : n ≤ 5000) (h : lx_isW T n c "int") : ¬ lx_isW T n c "bool" := fun h2 => by
  have e1 := (wd_is (tx := "int") h.1 hn).2 h
  have e2 := (wd_is (tx := "bool") h.1 hn).2 h2
  rw [e1] at e2
  exact absurd e2 (by decide)
/-- a variable's clock: its Beat, how deep -/
theorem vx.beat {v : Nat} (h : vx q S G v) (hk : kc q.1.1 G) : ∃ b, hp_r G (qV q v) 4 = some b ∧ hp_kd G b = 5 ∧ hp_i G b 2 = nI (md_dep S (pr_a S) (v + 1) v) := by
  obtain ⟨-, -, -, -, -, b, x4, x5⟩ := h
  refine ⟨b, x4, ?_⟩
  rcases x5 with ⟨z1, z2, z3⟩ | ⟨k, s, z1, z2, z3, z4, z5, z6, z7, z8⟩
  · obtain ⟨-, -, ⟨b', y', c1, c2, c3, ⟨c4, c5, c6⟩, c7⟩, -⟩ := hk
    rw [c1] at z2
    rw [← Option.some.inj z2, z3]
    exact ⟨c4, c5⟩
  · exact ⟨z4, z7⟩
theorem pg_wh_e {n c : Nat} (hs : pg_same b S S2) (hV : pe_V n S) (hb : b = pr_v S) : pg_fv n S2 b c = pr_fv n S c ∧ (pr_fv n S c < pr_v S → S2.2 24 (pr_fv n S c) = S.2 24 (pr_fv n S c) ∧ md_dep S2 (pr_a S2) (pr_fv n S c + 1) (pr_fv n S c) = md_dep S (pr_a S) (pr_fv n S c + 1) (pr_fv n S c)) := by
  obtain ⟨v1, v2, v3, v4, v5, v6, v7, v8, v9⟩ := hV.N
  refine ⟨?_, fun h => ⟨hs.2.2 24 _ (by omega), ?_⟩⟩
  · unfold pg_fv pr_fv
    rw [hs.a, hb]
    refine lx_find_cg (pr_v S) _ _ (by omega) (fun i h1 h2 => ?_)
    unfold lx_vs
    rw [hs.T, hs.2.2 20 i (by omega), hs.2.2 21 i (by omega)]
  · rw [hs.a]
    exact gx_dep v9 (fun j h1 h2 => hs.2.2 22 j (by omega)) _ _ (pr_fv_le hV) h
theorem pg_wh_X {c s : Nat} {k : Int32} (hs : pg_same b S S2) (hV : pe_V (rz_n q.1) S) (hb : b = pr_v S) (h : ow_X q S c k) : pg_wh (rz_T q.1) (rz_n q.1) s b c S2 = pr_er k c := by
  obtain ⟨e1, e2⟩ := pg_wh_e (c := c) hs hV hb
  unfold pg_wh
  rw [e1]
  rcases h with ⟨a, rfl⟩ | ⟨a, u, rfl⟩ | ⟨a, u, e, rfl⟩
  · rw [if_pos a]
  · rw [if_neg (fun u => u a), if_pos]
    rcases Decidable.em (pr_fv (rz_n q.1) S c < pr_v S) with w | w
    · rw [(e2 w).1]
      exact u.imp (fun v => absurd w v) id
    · exact Or.inl (by rw [hb]; exact w)
  · have w : pr_fv (rz_n q.1) S c < pr_v S := Decidable.byContradiction fun v => u (Or.inl v)
    rw [if_neg (fun u => u a), if_neg (by rw [(e2 w).1, hb]; exact u), if_pos (by rw [(e2 w).2]; exact e)]
theorem pg_wh_V {c s : Nat} (hs : pg_same b S S2) (hV : pe_V (rz_n q.1) S) (hb : b = pr_v S) (h : ow_V q S c) : pg_wh (rz_T q.1) (rz_n q.1) s b c S2 = pr_ok 0 (lx_next (rz_T q.1) (rz_n q.1) c) (pg_fill S2 22 (nI (2 * (pr_fv (rz_n q.1) S c - pr_a S) + s)) b (pr_v S2)) := by
  obtain ⟨e1, e2⟩ := pg_wh_e (c := c) hs hV hb
  obtain ⟨a, u, e⟩ := h
  have w : pr_fv (rz_n q.1) S c < pr_v S := Decidable.byContradiction fun v => u (Or.inl v)
  unfold pg_wh
  rw [e1, if_neg (fun u => u a), if_neg (by rw [(e2 w).1, hb]; exact u), if_neg (by rw [(e2 w).2]; exact fun v => v e), hs.a]
theorem pg_fill_2 {k a j m : Nat} {x : Int32} : (pg_fill S k x a m).2 k j = if a ≤ j ∧ j < m then x else S.2 k j := by
  show (ml_saA S k _).2 k j = _
  rw [ml_saA_a, if_pos rfl]
theorem pg_fill_n {k a j m r : Nat} {x : Int32} (h : r ≠ k) : (pg_fill S k x a m).2 r j = S.2 r j := by
  show (ml_saA S k _).2 r j = _
  rw [ml_saA_a, if_neg h]
/-- what a group leaves -/
def gP (q : PZ) (c : Nat) (S : MS) (kd : Int32) (G00 G : GH) (Lv hv : Nat) (r : PE) (v : Option WV) (G' : GH) : Prop := v = none ∧ ∃ c' S' q' cv', r = .inr (0, c', S') ∧ qx (pr_v S) q q' ∧ (∀ j, pr_v S ≤ j → j < pr_v S' → qK q' j = kd) ∧ rat q'.1 c' G' ∧ env q' S' (pr_v S') G' ∧ nvs q' S' (pr_v S') G00 G' Lv hv cv' ∧ (rx q'.1 no9 G00 G' ∧ rkk q'.1 G00 G') ∧ (rx q'.1 (gow G Lv hv) G G' ∧ hp_r G' (qn q') = hp_r G (qn q') ∧ hp_i G' (qn q') = hp_i G (qn q')) ∧ cb (20 * (c' - c) + (wvn (pr_v S' - pr_a S') - wvn (pr_v S - pr_a S))) G G'
theorem X3_group_C {D c f hN Lv hv cv : Nat} {kd : Int32} {r : PE} {M : Nat} (hM : ∀ m, m ≤ 99 → pr_a S + m ≤ rz_n q.1 → m ≤ M) (hcmp : cmp_o q.1.1) (hD : 29 ≤ D) (hp : pst q lo c S X G) (hlo : lo = pr_p S) (hI : pg_I (rz_n q.1) c S) (hg : gx S) (pn : pin q S X G00 S X G) (hsn : sn G00) (hnv : nvs q S (pr_v S) G00 G Lv hv cv) (hhN : hp_r G00 q.1.2.1 9 = some hN) (hhN2 : hp_kd G00 hN ≠ 0) (hkd : kd = 0 ∨ kd = 1 ∨ kd = 2)
    (h : pg_group (rz_T q.1) (rz_n q.1) f (decide (kd = 2)) c S = some r) : wk_C q.1.1 mX3_group D (20 * (rz_n q.1 - c) + 40 + (wvn M - wvn (pr_v S - pr_a S))) [vR (some q.1.2.1), vI kd] G (gP q c S kd G00 G Lv hv r) (xq_X q G00 r) := by
  obtain ⟨hV, hvc, hcn, hn⟩ := id hI
  obtain ⟨v1, v2, v3, v4, v5, v6, v7, v8, v9⟩ := hV.N
  obtain ⟨y1, y2, y3⟩ := hp.2.1.2.1
  obtain ⟨n1, n2, ⟨n3, n4, n5⟩, n6, n7⟩ := id hnv
  have hT0 := hp.2.2.2
  have k1 := hp.1.1.1.1
  have kLv := n7.1.1
  have h99 := hg.1
  have hw99 : wvn (pr_v S - pr_a S) ≤ wvn M := wvn_le (hM _ (by omega) (by omega))
  unfold pg_group at h
  obtain ⟨r1, h1, hx1, h⟩ := pr_b_some h
  refine wk_C_of (by decide) rfl (by rcases hkd with rfl | rfl | rfl <;> exact Nat.le_of_ble_eq_true rfl) ?_
  refine blX3_group_0 k1 y3 y1 n1 kLv (J5_size_C (d := 0) n7) (by show 0 + 1 ≤ D; omega) (Nat.zero_le _) ?_ (fun _ _ _ u => absurd u id)
  rintro v G9 ⟨rfl, rfl⟩
  refine blX3_group_10 (by omega) (fun LN hL hA => ?_)
  have kL1 : hp_kd (hp_nw G9 LN 22 0) LN = 22 := by rw [hp_kd_nw, if_pos rfl]
  refine blX3_group_14 rfl (J5_init_C (d := 3) kL1 hA (Nat.le_refl 3)) (by show 3 + 1 ≤ D; omega) (Nat.zero_le _) ?_ (fun _ _ _ u => absurd u id)
  rintro v G1 ⟨rfl, hG1⟩
  have f0 : cf (fun _ => False) G9 (hp_nw G9 LN 22 0) := cf.rf.nw hL
  have f1 : cf (fun _ => False) G9 G1 := by rw [hG1]; exact (f0.sI (Or.inr hL)).sR (Or.inr hL)
  have al1 : al q.1.1 G1 LN 0 0 (fun i => some ((fun _ => 0) i)) := by rw [hG1]; exact al_new kL1 hA (by rw [hp_i_nw, if_pos rfl]) (hp.2.1.1.2.1.fr f0)
  clear hG1
  have hneL : LN ≠ Lv := fun u => by rw [u, kLv] at hL; cases hL
  have hrx1 := rx_of (z := q.1) f1 (fun a u => u.elim)
  have hp1 : pst q lo c S X G1 := hp.wr f1 (fun y u => u.elim) (fun _ _ _ _ _ u => u)
  have pn1 : pin q S X G9 S X G1 := ⟨pe_same.rf, Nat.le_refl _, fun _ _ => rfl, fun j a b => absurd b (by omega), ⟨hrx1.1.mono (fun a _ u => u.imp (fun v => v.elim) id), hrx1.2⟩, fun k _ => by rw [f1.r (by rw [k1]; decide) (fun u => u)]⟩
  refine blX3_group_18 ?_
  have hPX : ∀ E a G', xq_X q G9 r E a G' → xq_X q G00 r E a G' := fun E a G' u => u.up pn (fun _ e => e)
  refine X3_names_L (b := pr_v S) (G00 := G9) (r := r) (r1 := r1) (W := wvn M - wvn (pr_v S - pr_a S)) (c0 := c) (lo := lo) (X := X) hcmp (by omega) hV rfl hlo hPX hx1 ?_ f c S G1 0 0 (fun _ => 0) _ hp1 pn1 ⟨al1, fun i hi => absurd hi (Nat.not_lt_zero i), ⟨hL, fun _ _ => Or.inl rfl⟩, fun i j _ _ a b => by omega⟩ pg_same.rf (by omega) (by omega) hI (Nat.le_refl _) h1 (by omega)
  intro c1 S1 G2 k cn nm r2 he1 hp2 pn2 hN2 hS1 hv1 hk0 hk99 hI1 hc1 hr2
  have h := h _ _ _ he1
  have pn02 := pn.tr pn2
  have hg1 : gxn (pr_v S) S1 := by
    rw [he1] at h1
    exact pg_names_gx _ _ _ _ _ _ h1 hI hT0 (Nat.le_refl _) ⟨by omega, hg.2, fun v a b => by omega⟩
  refine wk_less hr2 ?_
  refine blX3_group_110 hp2.1.1.1.1 (X3_need_C (k := 58) (d := 9) hp2.1 (by decide) (Nat.le_refl 9)) (by show 9 + 1 ≤ D; omega) (by omega) ?_ (fun E a G' u => wk_out0 rfl (u.2.X pn02 (by rw [← h, if_neg u.1])))
  rintro v G3 ⟨rfl, hq, t1, t2⟩
  rw [if_pos hq] at h
  obtain ⟨tk1, tk2⟩ := lx_tk (T := rz_T q.1) (n := rz_n q.1) (c := c1) (by rw [hq]; decide)
  obtain ⟨hp3, pn3⟩ := hp2.scan t1 t2
  have hN3 := hN2.rx hp2.1.1.1.1 hp2.1.1.2.1.1 pn3.2.2.2.2.1
  have p3 := pn2.tr pn3
  have p03 := pn02.tr pn3
  have kR3 := hp3.1.1.1.1
  -- the type
  have typ : ∀ (tb : Int32) (tyO : Option Nat) r3, tyO = ty q.1.1 tb → (lx_isW (rz_T q.1) (rz_n q.1) (lx_next (rz_T q.1) (rz_n q.1) c1) "int" ∧ tb = 0 ∨ ¬ lx_isW (rz_T q.1) (rz_n q.1) (lx_next (rz_T q.1) (rz_n q.1) c1) "int" ∧ tb = 1) → 20 * (rz_n q.1 - lx_next (rz_T q.1) (rz_n q.1) c1) + 36 + (wvn M - wvn (pr_v S - pr_a S)) ≤ r3 →
      wk_V q.1.1 mX3_group (D, 20 * (rz_n q.1 - c) + 40 + (wvn M - wvn (pr_v S - pr_a S)), gP q c S kd G00 G9 Lv hv r, xq_X q G00 r, hp_cs G9, hp_ss G9) 135 [(0, vR (some q.1.2.1)), (1, vI kd), (3, vR (some LN))] [vR tyO] G3 r3 := by
    intro tb tyO r3 htyO hib hr3
    refine wk_less hr3 ?_
    -- the clock
    have clk : ∀ G4 r4, lx_next (rz_T q.1) (rz_n q.1) c1 + 1 ≤ lx_next (rz_T q.1) (rz_n q.1) (lx_next (rz_T q.1) (rz_n q.1) c1) → lx_next (rz_T q.1) (rz_n q.1) (lx_next (rz_T q.1) (rz_n q.1) c1) ≤ rz_n q.1 → (if lx_isW (rz_T q.1) (rz_n q.1) (lx_next (rz_T q.1) (rz_n q.1) c1) "bool" then (1 : Int32) else 0) = tb → pst q lo (lx_next (rz_T q.1) (rz_n q.1) (lx_next (rz_T q.1) (rz_n q.1) c1)) S X G4 → pin q S X G9 S X G4 → gnm q S1 (pr_v S) G9 G4 LN k cn nm →
        (if decide (kd = 2) = true ∧ lx_isW (rz_T q.1) (rz_n q.1) (lx_next (rz_T q.1) (rz_n q.1) (lx_next (rz_T q.1) (rz_n q.1) c1)) "when" then
          if lx_isW (rz_T q.1) (rz_n q.1) (lx_next (rz_T q.1) (rz_n q.1) (lx_next (rz_T q.1) (rz_n q.1) (lx_next (rz_T q.1) (rz_n q.1) c1))) "not" then pg_wh (rz_T q.1) (rz_n q.1) 0 (pr_v S) (lx_next (rz_T q.1) (rz_n q.1) (lx_next (rz_T q.1) (rz_n q.1) (lx_next (rz_T q.1) (rz_n q.1) (lx_next (rz_T q.1) (rz_n q.1) c1)))) (pg_fill S1 24 tb (pr_v S) (pr_v S1))
          else pg_wh (rz_T q.1) (rz_n q.1) 1 (pr_v S) (lx_next (rz_T q.1) (rz_n q.1) (lx_next (rz_T q.1) (rz_n q.1) (lx_next (rz_T q.1) (rz_n q.1) c1))) (pg_fill S1 24 tb (pr_v S) (pr_v S1))
        else pr_ok 0 (lx_next (rz_T q.1) (rz_n q.1) (lx_next (rz_T q.1) (rz_n q.1) c1)) (pg_fill S1 24 tb (pr_v S) (pr_v S1))) = some r → 20 * (rz_n q.1 - lx_next (rz_T q.1) (rz_n q.1) (lx_next (rz_T q.1) (rz_n q.1) c1)) + 46 + (wvn M - wvn (pr_v S - pr_a S)) ≤ r4 →
        wk_V q.1.1 mX3_group (D, 20 * (rz_n q.1 - c) + 40 + (wvn M - wvn (pr_v S - pr_a S)), gP q c S kd G00 G9 Lv hv r, xq_X q G00 r, hp_cs G9, hp_ss G9) 152 [(0, vR (some q.1.2.1)), (1, vI kd), (3, vR (some LN)), (4, vR tyO)] [] G4 r4 := by
      intro G4 r4 tk3 tk4 htb hp4 pn4 hN4 h hr4
      refine wk_less hr4 ?_
      have hf24 := pg_fill_same (S := S1) (k := 24) (a := pr_v S) (b := pr_v S1) (x := tb) (Or.inr rfl)
      have hS2 : pg_same (pr_v S) S (pg_fill S1 24 tb (pr_v S) (pr_v S1)) := hS1.tr hf24 (Nat.le_refl _)
      have hV2 : pe_V (rz_n q.1) (pg_fill S1 24 tb (pr_v S) (pr_v S1)) := pg_fill_V hI1.1
      -- the variables
      have mk : ∀ c' S' G5 bb dp r5, r = .inr (0, c', S') → lx_next (rz_T q.1) (rz_n q.1) (lx_next (rz_T q.1) (rz_n q.1) c1) ≤ c' → pst q lo c' S X G5 → pin q S X G9 S X G5 → gnm q S1 (pr_v S) G9 G5 LN k cn nm → pg_same (pr_v S) S S' → pr_v S' = pr_v S + k → pe_V (rz_n q.1) S' → (∀ i, S'.2 20 i = S1.2 20 i ∧ S'.2 21 i = S1.2 21 i) → (∀ j, pr_v S ≤ j → j < pr_v S + k → S'.2 24 j = tb) → (∀ j, pr_v S ≤ j → j < pr_v S + k → md_dep S' (pr_a S') (j + 1) j = dp) →
          (hp_kd G5 bb = 5 ∧ ((zBASE q.1.1 = some bb ∧ dp = 0 ∧ ∀ j, pr_v S ≤ j → j < pr_v S + k → S'.2 22 j = -1) ∨ ∃ k' s, s < 2 ∧ k' < 2 ^ 29 ∧ pr_a S' + k' < pr_v S ∧ (∀ j, pr_v S ≤ j → j < pr_v S + k → S'.2 22 j = nI (2 * k' + s)) ∧ hp_r G5 bb 0 = some (qV q (pr_a S' + k')) ∧ hp_i G5 bb 1 = nI s ∧ hp_i G5 bb 2 = nI dp ∧ dp ≤ 8)) → 20 * (rz_n q.1 - c') + 40 + (wvn M - wvn (pr_v S - pr_a S)) ≤ r5 →
          wk_V q.1.1 mX3_group (D, 20 * (rz_n q.1 - c) + 40 + (wvn M - wvn (pr_v S - pr_a S)), gP q c S kd G00 G9 Lv hv r, xq_X q G00 r, hp_cs G9, hp_ss G9) 202 [(0, vR (some q.1.2.1)), (1, vI kd), (3, vR (some LN)), (4, vR tyO), (5, vR (some bb))] [] G5 r5 := by
        intro c' S' G5 bb dp r5 hr' hcc hp5 pn5 hN5 hS' hv' hV' hnl hty' hdp' hbt hr5
        have ha' : pr_a S' = pr_a S := hS'.a
        have hc'n := hp5.1.2.1
        have p05 := pn.tr pn5
        have k5 : hp_kd G5 (qn q) = 8 := hp5.2.1.2.1.1
        have rn : hp_r G5 (qn q) = hp_r G9 (qn q) ∧ hp_i G5 (qn q) = hp_i G9 (qn q) := by
          obtain ⟨e1, e2, -⟩ := pn5.2.2.2.2.1.old k1 hp.1.1.2.1.1 (x := qn q) (by rw [y1]; decide) (fun u => u) (by rw [y1]; decide)
          exact ⟨e2, e1⟩
        have nlv' : nlv (rz_T q.1) S' = nlv (rz_T q.1) S1 := by
          funext i
          unfold nlv
          rw [(hnl i).1, (hnl i).2]
        have hab : pr_a S' ≤ pr_v S := by omega
        have hwk : wvn (pr_v S + k - pr_a S') ≤ wvn M := wvn_le (hM _ (by omega) (by have := hI1.2.1; have := hI1.2.2.1; omega))
        have hwb : wvn (pr_v S - pr_a S) ≤ wvn (pr_v S + k - pr_a S') := wvn_le (by omega)
        have ar1 : ∀ r6, 20 * (rz_n q.1 - c') + 40 + wvn M ≤ r6 + wvn (pr_v S + k - pr_a S') → 20 * (rz_n q.1 - c') + 40 + (wvn M - wvn (pr_v S + k - pr_a S')) ≤ r6 := fun r6 h => by omega
        have ar2 : 20 * (rz_n q.1 - c') + 40 + (wvn M - wvn (pr_v S + k - pr_a S')) ≤ 20 * (rz_n q.1 - c) + 40 + (wvn M - wvn (pr_v S - pr_a S)) := by omega
        have ar3 : 20 * (rz_n q.1 - c) + 40 + (wvn M - wvn (pr_v S - pr_a S)) - (20 * (rz_n q.1 - c') + 40 + (wvn M - wvn (pr_v S + k - pr_a S'))) ≤ 20 * (c' - c) + (wvn (pr_v S + k - pr_a S') - wvn (pr_v S - pr_a S)) := by omega
        refine blX3_group_202 ?_
        have hal : al q.1.1 G5 Lv (pr_v S - pr_a S) cv (fun j => some (qV q (pr_a S + j))) := by
          refine n7.fr pn5.2.2.2.2.1.1 ?_ (fun y _ hy => ?_)
          · rintro (u | u | u | u)
            · exact u
            · rw [u, k1] at kLv; cases kLv
            · rw [u, hp.1.1.2.1.1] at kLv; cases kLv
            · rw [u] at kLv; cases kLv
          · rintro (u | u | u | u)
            · exact u
            · rw [u, k1] at hy; cases hy
            · rw [u, hp.1.1.2.1.1] at hy; cases hy
            · rw [u] at hy; cases hy
        have hcl := X3_vars_L (q0 := q) (S' := S') (b := pr_v S) (k := k) (c := c') (kd := kd) (tyO := tyO) (bb := bb) (dp := dp) (G00 := G00) (Gs := G9) (LN := LN) (cn := cn) (nm := nm) (D := D) (B := 20 * (rz_n q.1 - c) + 40 + (wvn M - wvn (pr_v S - pr_a S))) (W := 20 * (rz_n q.1 - c') + 40 + wvn M) (P := gP q c S kd G00 G9 Lv hv r) (PX := xq_X q G00 r) (cs := hp_cs G9) (ss := hp_ss G9) hcmp hD hsn hV' hv' hab (by omega) (fun j a b => by rw [htyO, hty' j a b]) hdp' hhN hhN2 ?_ k 0 q G5 cv Lv hv (by omega) ⟨⟨qx.rf, fun j a b => by omega⟩, hp5.1, ?_, ⟨by rw [rn.1]; exact n1, by rw [rn.1]; exact n2, ⟨n3, n4, n5.1, fun j a b => n5.2 j (by rw [← ha']; exact a) b⟩, n6.cg (pn5.2.2.2.2.1.1.lg (by rw [kLv]; decide)), by rw [ha']; exact hal⟩, ⟨?_, hneL⟩, ⟨p05.2.2.2.2.1, p05.2.2.2.2.2⟩, ⟨⟨pn5.2.2.2.2.1.1.mono (fun a _ u => u.imp (fun v => v.elim) id), pn5.2.2.2.2.1.2⟩, rn⟩, hbt⟩ r5 ?_ (by omega)
        · exact hcl
        · intro q' G6 cv' Lv' hv6 hI6 r6 hr6
          obtain ⟨⟨w1, w2⟩, w3, w4, w5, w6, w7, w8, w9⟩ := hI6
          have eqn : qn q' = qn q := by show q'.2.2.2.1 = q.2.2.2.1; rw [w1.2.2]
          have eLv : Lv' = Lv ∧ hv6 = hv := by
            have a1 := w5.1
            have a2 := w5.2.1
            rw [w8.2.1, eqn] at a1 a2
            rw [n1] at a1
            rw [n2] at a2
            exact ⟨(Option.some.inj a1).symm, (Option.some.inj a2).symm⟩
          obtain ⟨rfl, rfl⟩ := eLv
          have eA : pr_v S' - pr_a S' = pr_v S + k - pr_a S' := by rw [hv']
          refine wk_less (ar1 _ hr6) (wk_cb ar2 fun hcb => blX3_group_289 ⟨rfl, c', S', q', cv', hr', w1, fun j a b => w2 j a (by rw [← hv']; exact b), w3, by rw [hv']; exact w4, by rw [hv']; exact w5, w7, w8, hcb.mono (by rw [eA]; exact ar3)⟩)
        · -- the environment
          obtain ⟨m1, m2, ⟨hN', m3, m4⟩, ⟨hv', m5, m6⟩, m7, m8⟩ := hp5.2.1
          have kN : nln (rz_T q.1) S' = nln (rz_T q.1) S := by unfold nln; rw [hS'.2.1 10 (by decide), hS'.2.1 11 (by decide)]
          refine ⟨m1, m2, ⟨hN', m3, ?_⟩, ⟨hv', m5, ?_⟩, fun f hf => m7 f (by rw [← hS'.N]; exact hf), fun v a b => ?_⟩
          · rw [hS'.N, kN]; exact m4
          · have e : mpf (nlv (rz_T q.1) S') (pr_a S') (pr_v S) (qV q) = mpf (nlv (rz_T q.1) S) (pr_a S) (pr_v S) (qV q) := by
              rw [ha']
              exact mpf_cg (fun i _ h2 => nlv_old hS' h2) (fun _ _ _ => rfl) v6
            show hm q.1.1 G5 hv' (pr_v S - pr_a S') (mpf (nlv (rz_T q.1) S') (pr_a S') (pr_v S) (qV q))
            rw [e, ha']
            exact m6
          · rw [ha'] at a
            have b' : v < pr_v S := b
            have g := m8 v a b'
            unfold vx at g ⊢
            rw [nlv_old hS' b', hS'.2.2 24 v b', hS'.2.2 22 v b', ha', gx_dep v9 (fun j h1 h2 => hS'.2.2 22 j h2) _ _ a b']
            exact g
        · refine ⟨hN5.1, fun i hi => by rw [nlv']; exact hN5.2.1 i hi, hN5.2.2.1, fun i j a1 a2 a3 a4 => ?_⟩
          rw [nlv']
          exact hN5.2.2.2 i j (by rw [hS1.a, ← ha']; exact a1) a2 a3 a4
        · show 20 * (rz_n q.1 - c') + 40 + wvn M ≤ r5 + wvn (pr_v S - pr_a S')
          rw [ha']
          omega
      -- no clock
      have base : ¬ (decide (kd = 2) = true ∧ lx_isW (rz_T q.1) (rz_n q.1) (lx_next (rz_T q.1) (rz_n q.1) (lx_next (rz_T q.1) (rz_n q.1) c1)) "when") → ∀ G5 bO, G5 = G4 → bO = zBASE q.1.1 → wk_V q.1.1 mX3_group (D, 20 * (rz_n q.1 - c) + 40 + (wvn M - wvn (pr_v S - pr_a S)), gP q c S kd G00 G9 Lv hv r, xq_X q G00 r, hp_cs G9, hp_ss G9) 202 [(0, vR (some q.1.2.1)), (1, vI kd), (3, vR (some LN)), (4, vR tyO), (5, vR bO)] [] G5 (20 * (rz_n q.1 - lx_next (rz_T q.1) (rz_n q.1) (lx_next (rz_T q.1) (rz_n q.1) c1)) + 46 + (wvn M - wvn (pr_v S - pr_a S))) := by
        rintro hno G5 bO rfl rfl
        rw [if_neg hno] at h
        obtain ⟨-, -, ⟨bb, yy, b1, b2, b3, ⟨b4, b5, b6⟩, b7⟩, -⟩ := hp4.2.1.1
        rw [b1]
        refine mk _ _ G5 bb 0 _ (Option.some.inj h).symm (Nat.le_refl _) hp4 pn4 hN4 hS2 hv1 hV2 (fun i => ⟨pg_fill_n (by decide), pg_fill_n (by decide)⟩) (fun j a b => by rw [pg_fill_2, if_pos ⟨a, by omega⟩]) (fun j a b => ?_) ⟨b4, Or.inl ⟨b1, rfl, fun j a b => by rw [pg_fill_n (by decide)]; exact (hg1.2.2 j a (by omega)).2⟩⟩ (by omega)
        rw [md_dep, pg_fill_n (by decide), if_pos (hg1.2.2 j a (by omega)).2]
      refine blX3_group_152 (fun u => base (fun w => u (of_decide_eq_true w.1)) _ _ rfl rfl) (fun u => ?_)
      have hd2 : decide (kd = 2) = true := decide_eq_true u
      refine wk_have fun hA hB => ?_
      refine blX3_group_162 hp4.1.1.1.1 (X3_skip_2_C (tx := "when") (d := 8) hp4.1 hp4.2.1.1.1 (by simp [lx_words]) (Nat.le_refl 8)) (by show 8 + 1 ≤ D; omega) (by omega) ?_ (fun _ _ _ u => absurd u id)
      rintro v G5 (⟨hk5, rfl, t3, t4⟩ | ⟨hk5, rfl, rfl⟩)
      · rw [if_pos ⟨hd2, hk5⟩] at h
        obtain ⟨tk5, tk6⟩ := lx_tkw (T := rz_T q.1) (n := rz_n q.1) (c := lx_next (rz_T q.1) (rz_n q.1) (lx_next (rz_T q.1) (rz_n q.1) c1)) hk5
        obtain ⟨hp5, pn5⟩ := hp4.scan t3 t4
        have hN5 := hN4.rx hp4.1.1.1.1 hp4.1.1.2.1.1 pn5.2.2.2.2.1
        have p5 := pn4.tr pn5
        refine blX3_group_168 (fun u => absurd u (by decide)) (fun _ => ?_)
        -- on which
        have go : ∀ G6 cw s r6, s < 2 → lx_next (rz_T q.1) (rz_n q.1) (lx_next (rz_T q.1) (rz_n q.1) c1) ≤ cw → pst q lo cw S X G6 → pin q S X G9 S X G6 → gnm q S1 (pr_v S) G9 G6 LN k cn nm → pg_wh (rz_T q.1) (rz_n q.1) s (pr_v S) cw (pg_fill S1 24 tb (pr_v S) (pr_v S1)) = some r → 20 * (rz_n q.1 - cw) + 46 + (wvn M - wvn (pr_v S - pr_a S)) ≤ r6 →
            wk_V q.1.1 mX3_group (D, 20 * (rz_n q.1 - c) + 40 + (wvn M - wvn (pr_v S - pr_a S)), gP q c S kd G00 G9 Lv hv r, xq_X q G00 r, hp_cs G9, hp_ss G9) 185 [(0, vR (some q.1.2.1)), (1, vI kd), (3, vR (some LN)), (4, vR tyO)] [vI (nI s)] G6 r6 := by
          intro G6 cw s r6 hs2 hcw hp6 pn6 hN6 h hr6
          refine wk_less hr6 ?_
          refine blX3_group_185 (by omega) (fun x hx hA => ?_)
          have kR6 := hp6.1.1.1.1
          have fx1 : cf (fun _ => False) G6 (hp_nw G6 x 5 0) := cf.rf.nw hx
          have kx1 : hp_kd (hp_nw G6 x 5 0) x = 5 := by rw [hp_kd_nw, if_pos rfl]
          have hrx := rx_of (z := q.1) fx1 (fun a u => u.elim)
          have hp7 : pst q lo cw S X (hp_nw G6 x 5 0) := hp6.wr fx1 (fun y u => u.elim) (fun _ _ _ _ _ u => u)
          have pn7 : pin q S X G6 S X (hp_nw G6 x 5 0) := ⟨pe_same.rf, Nat.le_refl _, fun _ _ => rfl, fun j a b => absurd b (by omega), ⟨hrx.1.mono (fun a _ u => u.imp (fun v => v.elim) id), hrx.2⟩, fun k _ => by rw [fx1.r (by rw [kR6]; decide) (fun u => u)]⟩
          refine blX3_group_190 (fx1.k kR6 (by decide)) (X3_onWhich_C (d := 26) hp7 hV hcmp (Nat.le_refl 26)) (by show 26 + 1 ≤ D; omega) (by omega) ?_ (fun E a G' u => wk_out0 rfl ?_)
          · rintro v G8 ⟨hw, rfl, hp8, pn8⟩
            have p8 := (pn6.tr pn7).tr pn8
            obtain ⟨tk7, tk8⟩ := lx_tkn (T := rz_T q.1) (n := rz_n q.1) (c := cw) hw.1
            have hlt : pr_fv (rz_n q.1) S cw < pr_v S := Decidable.byContradiction fun u => hw.2.1 (Or.inl u)
            have hfl := pr_fv_le (c := cw) hV
            rw [pg_wh_V hS2 hV rfl hw] at h
            have hN8 := (hN6.rx kR6 hp6.1.1.2.1.1 pn7.2.2.2.2.1).rx hp7.1.1.1.1 hp7.1.1.2.1.1 pn8.2.2.2.2.1
            have hvx := hp8.2.1.2.2.2.2.2 _ hfl hlt
            obtain ⟨b0, b1, b2, b3⟩ := hvx.beat hp8.2.1.1
            have kx8 : hp_kd G8 x = 5 := pn8.2.2.2.2.1.1.k kx1 (by decide)
            have hbx : b0 ≠ x := fun u => by
              -- the new cell wasn't known before
              have k6 := (hp6.2.1.2.2.2.2.2 _ hfl hlt).beat hp6.2.1.1
              obtain ⟨b9, g1, g2, -⟩ := k6
              have g3 := (pn7.tr pn8).2.2.2.2.1.old kR6 hp6.1.1.2.1.1 (x := qV q (pr_fv (rz_n q.1) S cw)) (by rw [(hp6.2.1.2.2.2.2.2 _ hfl hlt).1.1]; decide) (fun u => u) (by rw [(hp6.2.1.2.2.2.2.2 _ hfl hlt).1.1]; decide)
              rw [g3.2.1, g1] at b1
              rw [← Option.some.inj b1] at u
              rw [u, hx] at g2
              cases g2
            refine blX3_group_195 rfl (X8_init_C (d := 1) kx8 hA (s01 hs2) hvx.1.1 b1 b2 hbx (Nat.le_refl 1)) (by show 1 + 1 ≤ D; omega) (Nat.zero_le _) ?_ (fun _ _ _ u => absurd u id)
            rintro v G10 ⟨rfl, hG10⟩
            have x0 : hp_kd G9 x = 0 := pn6.2.2.2.2.1.1.fresh hx
            have f10 : cf (fun y => y = x) G8 G10 := by rw [hG10]; exact (((cf.rf (own := fun y => y = x)).sR (Or.inl rfl)).sI (Or.inl rfl)).sI (Or.inl rfl)
            have rb0 : hp_r G10 x 0 = some (qV q (pr_fv (rz_n q.1) S cw)) := by rw [hG10, hp_r_sI, hp_r_sI, hp_r_sR, if_pos rfl, if_pos rfl]
            have ib1 : hp_i G10 x 1 = nI s := by rw [hG10, hp_i_sI, if_pos rfl, if_neg (by decide), hp_i_sI, if_pos rfl, if_pos rfl]
            have ib2 : hp_i G10 x 2 = hp_i G8 b0 2 + 1 := by rw [hG10, hp_i_sI, if_pos rfl, if_pos rfl]
            clear hG10
            rw [b3, nI_1] at ib2
            have hrx10 := rx_of (z := q.1) f10 (fun a u => by rw [u, kx8]; exact ⟨by decide, by decide⟩)
            have kR8 := hp8.1.1.1.1
            have nRx : ¬ q.1.2.1 = x := fun u => by rw [← u, kR8] at kx8; cases kx8
            have nTx : ¬ q.1.2.2.1 = x := fun u => by rw [← u, hp8.1.1.2.2.1.1] at kx8; cases kx8
            have p10 : pin q S X G9 S X G10 := by
              obtain ⟨a1, a2, a3, a4, a5, a6⟩ := p8
              exact ⟨a1, a2, a3, a4, a5.tr hrx10 (fun y hy u => by rw [u] at hy; exact absurd x0 hy), fun j hj => by rw [f10.r (by rw [kR8]; decide) nRx]; exact a6 j hj⟩
            have hnew : ∀ y, hp_kd G9 y ≠ 0 → hp_kd G8 y ≠ 0 → ¬ y = x := fun y hy _ u => hy (by rw [u]; exact x0)
            -- the environment doesn't look at a new Beat
            have hp10 : pst q lo (lx_next (rz_T q.1) (rz_n q.1) cw) S X G10 := by
              obtain ⟨m1, m2, m3, m4⟩ := hp8
              refine ⟨m1.fr f10 hrx10.2.2 nRx nTx, ?_, fun e a b => by omega, m4⟩
              obtain ⟨z1, z2, ⟨hN', z3, z4⟩, ⟨hv', z5, z6⟩, z7, z8⟩ := m2
              have nn : ¬ qn q = x := fun u => by have := z2.1; rw [u, kx8] at this; cases this
              have kn : hp_kd G8 (qn q) ≠ 0 := by rw [z2.1]; decide
              have hbase : ∀ y, hp_kd G8 y = 5 → (zBASE q.1.1 = some y ∨ zANY q.1.1 = some y) → ¬ y = x := by
                intro y _ hy u
                obtain ⟨-, -, ⟨bq, yq, q1, q2, q3, ⟨q4, -⟩, q7, -⟩, -⟩ := hp.2.1.1
                rcases hy with e | e
                · rw [q1] at e
                  exact hnew bq (by rw [q4]; decide) (by rw [Option.some.inj e, u, kx8]; decide) (by rw [Option.some.inj e]; exact u)
                · rw [q2] at e
                  exact hnew yq (by rw [q7]; decide) (by rw [Option.some.inj e, u, kx8]; decide) (by rw [Option.some.inj e]; exact u)
              refine ⟨?_, ⟨f10.k z2.1 (by decide), z2.2.1, by rw [f10.r (by rw [kR8]; decide) nRx]; exact z2.2.2⟩, ⟨hN', by rw [f10.r (by rw [kR8]; decide) nRx]; exact z3, z4.fr f10 hrx10.2.2 (fun u => by have := z4.1.1; rw [u, kx8] at this; cases this) (fun y _ hy u => by rw [u, kx8] at hy; omega)⟩, ⟨hv', by rw [f10.r kn nn]; exact z5, z6.fr f10 hrx10.2.2 (fun u => by have := z6.1.1; rw [u, kx8] at this; cases this) (fun y _ hy u => by rw [u, kx8] at hy; omega)⟩, fun f hf => f10.k (z7 f hf) (by decide), fun v a b => ?_⟩
              · obtain ⟨u1, u2, ⟨bq, yq, q1, q2, q3, ⟨q4, q5, q6⟩, q7, q8, q9⟩, u4⟩ := z1
                have nb := hbase bq q4 (Or.inl q1)
                have ny := hbase yq q7 (Or.inr q2)
                exact ⟨fun tx ht => hrx10.2.1 _ _ (u1 tx ht), u2.fr f10, ⟨bq, yq, q1, q2, q3, ⟨f10.k q4 (by decide), by rw [f10.i (by rw [q4]; decide) nb]; exact q5, by rw [f10.r (by rw [q4]; decide) nb]; exact q6⟩, f10.k q7 (by decide), by rw [f10.i (by rw [q7]; decide) ny]; exact q8, by rw [f10.r (by rw [q7]; decide) ny]; exact q9⟩, u4⟩
              · -- a variable's Beat is an old one
                have g8 := z8 v a b
                have g9 := hp.2.1.2.2.2.2.2 v a b
                obtain ⟨⟨i1, i2⟩, ⟨nm', i3, i4⟩, i5, i6, i7, b', i8, i9⟩ := g8
                have nv : ¬ qV q v = x := fun u => by rw [u, kx8] at i1; cases i1
                have kv : hp_kd G8 (qV q v) ≠ 0 := by rw [i1]; decide
                refine ⟨⟨f10.k i1 (by decide), i2⟩, ⟨nm', by rw [f10.r kv nv]; exact i3, hrx10.2.2 _ _ i4⟩, by rw [f10.r kv nv]; exact i5, by rw [f10.i kv nv]; exact i6, ⟨by rw [f10.i kv nv]; exact i7.1, by rw [f10.r kv nv]; exact i7.2⟩, b', by rw [f10.r kv nv]; exact i8, ?_⟩
                rcases i9 with i9 | ⟨k', s', c1', c2', c3', k4, k5, k6, k7⟩
                · exact Or.inl i9
                · have nb : ¬ b' = x := fun u => by
                    obtain ⟨-, -, -, -, -, b9, j8, j9⟩ := g9
                    have o9 := p8.2.2.2.2.1.old k1 hp.1.1.2.1.1 (x := qV q v) (by rw [(hp.2.1.2.2.2.2.2 v a b).1.1]; decide) (fun u => u) (by rw [(hp.2.1.2.2.2.2.2 v a b).1.1]; decide)
                    rw [o9.2.1, j8] at i8
                    have eb := Option.some.inj i8
                    obtain ⟨b10, g1, g2, -⟩ := (hp.2.1.2.2.2.2.2 v a b).beat hp.2.1.1
                    rw [j8] at g1
                    rw [← Option.some.inj g1, eb, u, x0] at g2
                    cases g2
                  have kb : hp_kd G8 b' ≠ 0 := by rw [k4]; decide
                  exact Or.inr ⟨k', s', c1', c2', c3', f10.k k4 (by decide), by rw [f10.r kb nb]; exact k5, by rw [f10.i kb nb]; exact k6, by rw [f10.i kb nb]; exact k7⟩
            have hN10 : gnm q S1 (pr_v S) G9 G10 LN k cn nm := hN8.fr f10 hrx10.2.2 (fun u => by have := hN8.1.1.1; rw [u, kx8] at this; cases this) (fun y _ hy u => by rw [u, kx8] at hy; cases hy)
            refine blX3_group_200 ?_
            have hS3 : pg_same (pr_v S) S (pg_fill (pg_fill S1 24 tb (pr_v S) (pr_v S1)) 22 (nI (2 * (pr_fv (rz_n q.1) S cw - pr_a S) + s)) (pr_v S) (pr_v S1)) := hS2.tr (pg_fill_same (Or.inl rfl)) (Nat.le_refl _)
            have hV3 : pe_V (rz_n q.1) (pg_fill (pg_fill S1 24 tb (pr_v S) (pr_v S1)) 22 (nI (2 * (pr_fv (rz_n q.1) S cw - pr_a S) + s)) (pr_v S) (pr_v S1)) := by
              have e : pg_wh (rz_T q.1) (rz_n q.1) s (pr_v S) cw (pg_fill S1 24 tb (pr_v S) (pr_v S1)) = some (.inr (0, lx_next (rz_T q.1) (rz_n q.1) cw, pg_fill (pg_fill S1 24 tb (pr_v S) (pr_v S1)) 22 (nI (2 * (pr_fv (rz_n q.1) S cw - pr_a S) + s)) (pr_v S) (pr_v S1))) := pg_wh_V hS2 hV rfl hw
              exact (pg_wh_ok e ⟨hV2, by have := hI1.2.1; show pr_v S1 ≤ cw; omega, hp6.1.2.1, hn⟩ hs2 (by rw [hS2.a]; exact v6) (by show pr_v S ≤ pr_v S1; omega)).2.1.1
            have hv3 : pr_v (pg_fill (pg_fill S1 24 tb (pr_v S) (pr_v S1)) 22 (nI (2 * (pr_fv (rz_n q.1) S cw - pr_a S) + s)) (pr_v S) (pr_v S1)) = pr_v S + k := hv1
            have c22 : ∀ j, pr_v S ≤ j → j < pr_v S + k → (pg_fill (pg_fill S1 24 tb (pr_v S) (pr_v S1)) 22 (nI (2 * (pr_fv (rz_n q.1) S cw - pr_a S) + s)) (pr_v S) (pr_v S1)).2 22 j = nI (2 * (pr_fv (rz_n q.1) S cw - pr_a S) + s) := fun j a b => by rw [pg_fill_2, if_pos ⟨a, by omega⟩]
            refine mk _ (pg_fill (pg_fill S1 24 tb (pr_v S) (pr_v S1)) 22 (nI (2 * (pr_fv (rz_n q.1) S cw - pr_a S) + s)) (pr_v S) (pr_v S1)) G10 x (md_dep S (pr_a S) (pr_fv (rz_n q.1) S cw + 1) (pr_fv (rz_n q.1) S cw) + 1) _ (Option.some.inj h).symm (by omega) hp10 p10 hN10 hS3 hv3 hV3 (fun i => ⟨by rw [pg_fill_n (by decide), pg_fill_n (by decide)], by rw [pg_fill_n (by decide), pg_fill_n (by decide)]⟩) (fun j a b => by rw [pg_fill_n (by decide), pg_fill_2, if_pos ⟨a, by omega⟩]) (fun j a b => ?_) ⟨f10.k kx8 (by decide), Or.inr ⟨pr_fv (rz_n q.1) S cw - pr_a S, s, hs2, by omega, by rw [hS3.a]; omega, c22, by rw [hS3.a, show pr_a S + (pr_fv (rz_n q.1) S cw - pr_a S) = pr_fv (rz_n q.1) S cw by omega]; exact rb0, ib1, ib2, hw.2.2⟩⟩ (by omega)
            rw [hS3.a, md_dep, c22 j a b, if_neg (fun u => absurd (show nI (2 * (pr_fv (rz_n q.1) S cw - pr_a S) + s) < 0 by rw [u]; decide) (nI_pos (by omega))), nI_clamp (by omega), show pr_a S + (2 * (pr_fv (rz_n q.1) S cw - pr_a S) + s) / 2 = pr_fv (rz_n q.1) S cw by omega, gx_dep v9 (fun j h1 h2 => hS3.2.2 22 j h2) _ _ hfl hlt, md_dep_f v9 j (pr_fv (rz_n q.1) S cw + 1) _ hfl hlt (by omega) (by omega)]
          · obtain ⟨kk, hk6, he6⟩ := u
            rw [pg_wh_X hS2 hV rfl hk6] at h
            exact he6.X (pn.tr (pn6.tr pn7)) h
        refine wk_have fun hA hB => ?_
        refine blX3_group_171 hp5.1.1.1.1 (X3_skip_2_C (tx := "not") (d := 8) hp5.1 hp5.2.1.1.1 (by simp [lx_words]) (Nat.le_refl 8)) (by show 8 + 1 ≤ D; omega) (by omega) ?_ (fun _ _ _ u => absurd u id)
        rintro v G6 (⟨hk6, rfl, t5, t6⟩ | ⟨hk6, rfl, rfl⟩)
        · rw [if_pos hk6] at h
          obtain ⟨tk7, tk8⟩ := lx_tkw (T := rz_T q.1) (n := rz_n q.1) hk6
          obtain ⟨hp6, pn6⟩ := hp5.scan t5 t6
          exact blX3_group_177 (fun _ => blX3_group_184 (go G6 _ 0 _ (by decide) (by omega) hp6 (p5.tr pn6) (hN5.rx hp5.1.1.1.1 hp5.1.1.2.1.1 pn6.2.2.2.2.1) h (by omega))) (fun u => absurd u (by decide))
        · rw [if_neg hk6] at h
          exact blX3_group_177 (fun u => absurd rfl u) (fun _ => wk_bk hA hB cb.rf (u := 0) (r' := 20 * (rz_n q.1 - lx_next (rz_T q.1) (rz_n q.1) (lx_next (rz_T q.1) (rz_n q.1) c1)) + 46 + (wvn M - wvn (pr_v S - pr_a S)) - 10) (by omega) (blX3_group_180 (go _ _ 1 _ (by decide) (by omega) hp5 p5 hN5 h (by omega))))
      · exact blX3_group_168 (fun _ => wk_bk hA hB cb.rf (u := 0) (r' := 20 * (rz_n q.1 - lx_next (rz_T q.1) (rz_n q.1) (lx_next (rz_T q.1) (rz_n q.1) c1)) + 46 + (wvn M - wvn (pr_v S - pr_a S))) (by omega) (base (fun w => hk5 w.2) _ _ rfl rfl)) (fun u => absurd rfl u)
    refine wk_have fun hA hB => ?_
    refine blX3_group_135 kR3 (X3_skip_2_C (tx := "int") (d := 8) hp3.1 hp3.2.1.1.1 (by simp [lx_words]) (Nat.le_refl 8)) (by show 8 + 1 ≤ D; omega) (by omega) ?_ (fun _ _ _ u => absurd u id)
    rintro v G4 (⟨hk4, rfl, t3, t4⟩ | ⟨hk4, rfl, rfl⟩)
    · have nb := isW_ib hn hk4
      have etb : tb = 0 := by
        rcases hib with ⟨-, e⟩ | ⟨e, -⟩
        · exact e
        · exact absurd hk4 e
      rw [if_neg (fun u => u.2 hk4)] at h
      obtain ⟨tk3, tk4⟩ := lx_tkw (T := rz_T q.1) (n := rz_n q.1) hk4
      obtain ⟨hp4, pn4⟩ := hp3.scan t3 t4
      have ebb : (if lx_isW (rz_T q.1) (rz_n q.1) (lx_next (rz_T q.1) (rz_n q.1) c1) "bool" then (1 : Int32) else 0) = tb := by rw [if_neg nb, etb]
      rw [ebb] at h
      exact blX3_group_143 (fun _ => clk G4 _ tk3 tk4 ebb hp4 (p3.tr pn4) (hN3.rx kR3 hp3.1.1.2.1.1 pn4.2.2.2.2.1) h (by omega)) (fun u => absurd u (by decide))
    · refine blX3_group_143 (fun u => absurd rfl u) (fun _ => ?_)
      refine wk_bk hA hB cb.rf (u := 0) (r' := 20 * (rz_n q.1 - lx_next (rz_T q.1) (rz_n q.1) c1) + 36 + (wvn M - wvn (pr_v S - pr_a S))) (by omega) ?_
      refine blX3_group_146 kR3 (X3_need_2_C (tx := "bool") (d := 9) hp3.1 hp3.2.1.1.1 (by simp [lx_words]) (Nat.le_refl 9)) (by show 9 + 1 ≤ D; omega) (by omega) ?_ (fun E a G' u => wk_out0 rfl (u.2.X p03 (by rw [← h, if_pos ⟨u.1, hk4⟩])))
      rintro v G5 ⟨rfl, hk5, t3, t4⟩
      have etb : tb = 1 := by
        rcases hib with ⟨e, -⟩ | ⟨-, e⟩
        · exact absurd e hk4
        · exact e
      rw [if_neg (fun u => u.1 hk5)] at h
      obtain ⟨tk3, tk4⟩ := lx_tkw (T := rz_T q.1) (n := rz_n q.1) hk5
      obtain ⟨hp4, pn4⟩ := hp3.scan t3 t4
      have ebb : (if lx_isW (rz_T q.1) (rz_n q.1) (lx_next (rz_T q.1) (rz_n q.1) c1) "bool" then (1 : Int32) else 0) = tb := by rw [if_pos hk5, etb]
      rw [ebb] at h
      exact clk G5 _ tk3 tk4 ebb hp4 (p3.tr pn4) (hN3.rx kR3 hp3.1.1.2.1.1 pn4.2.2.2.2.1) h (by omega)
  refine blX3_group_117 kR3 (X3_is_C (tx := "int") (d := 2) hp3.1 hp3.2.1.1.1 (by simp [lx_words]) (Nat.le_refl 2)) (by show 2 + 1 ≤ D; omega) (Nat.zero_le _) ?_ (fun _ _ _ u => absurd u id)
  rintro v G4 ⟨rfl, rfl⟩
  refine blX3_group_123 (fun u => ?_) (fun u => ?_)
  · exact blX3_group_132 (typ 1 _ _ rfl (Or.inr ⟨lx_b0.1 u, rfl⟩) (by omega))
  · exact blX3_group_126 (typ 0 _ _ rfl (Or.inl ⟨lx_b1 u, rfl⟩) (by omega))
end
