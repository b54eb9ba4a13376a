/-! THE COMPONENT's finish: gather, the walk -/
set_option maxRecDepth 100000
section
variable {q : PZ} {S : MS} {X Q kq : Nat → Nat} {lo hi n t Lc Lm Lr k : Nat} {G G0 G1 G2 G' : GH}
theorem gtw.kids (h : gtw q S X Q kq lo hi t G) (hpw : pw S lo hi) (hh : hi ≤ 5000) {e : Nat} (h1 : lo ≤ e) (h2 : e < hi) (h3 : 3 ≤ S.2 32 e) : ∃ L c, hp_r G (X e) 3 = some L ∧ al q.1.1 G L (kls S e).length c (fun i => some (X ((kls S e).getD i 0))) := by
  obtain ⟨⟨-, -, -, ks, g1, g2, g3⟩, -⟩ := h.2.2.1 e h1 h2
  obtain ⟨a1, L, c, a2, a3, a4⟩ := g3 h3
  obtain ⟨b1, b2, -⟩ := (hpw e h1 h2).2.kl (by omega)
  have e1 : ks = kls S e := md_ch_uq ks _ _ (fun k hk => by have := g2 k hk; omega) (fun k hk => by have := ((pw_k_mem _ _ b2).2 k hk).2; omega) g1 b1
  rw [← e1]
  exact ⟨L, c, a2, a4⟩
theorem gtw.hts (h : gtw q S X Q kq lo hi t G) (hpw : pw S lo hi) (hh : hi ≤ 5000) {e : Nat} (h1 : lo ≤ e) (h2 : e < hi) : (1 ≤ xh S e ∧ xh S e ≤ 200) ∧ ∀ k ∈ kls S e, lo ≤ k ∧ k < e ∧ xh S k < xh S e := by
  obtain ⟨-, -, ⟨w1, w2, w3⟩, ks, g1, g2⟩ := h.2.2.1 e h1 h2
  obtain ⟨b0, b⟩ := hpw e h1 h2
  obtain ⟨b1, b2, -⟩ := b.kl (by omega)
  have e1 : ks = kls S e := md_ch_uq ks _ _ (fun k hk => by have := (g2 k hk).1; omega) (fun k hk => by have := ((pw_k_mem _ _ b2).2 k hk).2; omega) g1 b1
  refine ⟨⟨w1, w2⟩, fun k hk => ?_⟩
  have := (pw_k_mem _ _ b2).2 k hk
  rw [← e1] at hk
  exact ⟨by omega, g2 k hk⟩
theorem X3_gather_C (hpw : pw S lo hi) (hh : hi ≤ 5000) (hne : l3 Lc Lm Lr) : ∀ m e d cc cm cr k G, xh S e < m → lo ≤ e → e < hi → gtw q S X Q kq lo hi t G → gs q S X Q kq lo t Lc Lm Lr (lw (S.2 34) e) cc cm cr G → (∀ x, lw (S.2 34) e ≤ x → x < e + 1 → kq x = k) → xh S e + 8 ≤ d →
    wk_C q.1.1 mX3_gather d (4 * (e + 1 - lw (S.2 34) e) + gpot S lo (lw (S.2 34) e) cc cm cr) [vR (some q.1.2.1), vR (some (Q k)), vR (some (X e))] G (fun v G' => v = none ∧ gaP q S X Q kq lo hi t Lc Lm Lr (lw (S.2 34) e) (e + 1) cc cm cr G G') (fun _ _ _ => False) := by
  intro m
  induction m with
  | zero => intro e d cc cm cr k G hm; omega
  | succ m ih =>
    intro e d cc cm cr k G hm h1 h2 hw hS hkq hd
    obtain ⟨⟨g1, g2⟩, g3⟩ := hw.hts hpw hh h1 h2
    obtain ⟨hlo, y0⟩ := hpw e h1 h2
    obtain ⟨y1, y2, y3⟩ := y0.kl (by omega)
    have hlen := pw_k_len _ _ y2
    have hle := (pw_k_mem _ _ y2).1
    have kd := (hw.2.2.1 e h1 h2).1.1.1
    have hA := (hw.2.2.1 e h1 h2).1.1.2
    have hk := hw.k h1 h2
    have kX0 : hp_kd G (X e) ≠ 0 := by omega
    refine wk_C_of (by decide) rfl (Nat.le_of_ble_eq_true rfl) ?_
    have g00 : gaP q S X Q kq lo hi t Lc Lm Lr (lw (S.2 34) e) (lw (S.2 34) e) cc cm cr G G := ⟨cc, cm, cr, hS, gtr.rf, by omega, cb.rf⟩
    rcases Classical.em (3 ≤ S.2 32 e) with h3 | h3
    · have kX : 15 ≤ hp_kd G (X e) ∧ hp_kd G (X e) ≤ 21 := by
        have h0 : ¬ (S.2 32 e = 0 ∨ S.2 32 e = 1) := by rintro (u | u) <;> rw [u] at h3 <;> exact absurd h3 (by decide)
        have h02 : ¬ S.2 32 e = 2 := fun u => by rw [u] at h3; exact absurd h3 (by decide)
        refine ⟨?_, hk.2⟩
        rw [kd]
        unfold xk
        rw [if_neg h0, if_neg h02]
        repeat' split
        all_goals decide
      have i1 : hp_inst G (some (X e)) "StreamNodes$Together" 1 := by have := hp_instT hk; rw [if_pos kX.1] at this; exact this
      refine blX3_gather_0 i1 (fun _ => ?_) (fun u => absurd u (by decide))
      refine blX3_gather_8 (fun a ha => ?_) ?_
      · rw [← Option.some.inj ha]
        refine ⟨kX0, by omega, ?_⟩
        rcases i1 with ⟨u, -⟩ | ⟨a', u1, -, -, u4⟩
        · cases u
        · rw [← Option.some.inj u1] at u4
          rcases u4 with ⟨-, u⟩ | ⟨u, -⟩
          · exact u
          · exact absurd u (by decide)
      -- behind the parts
      have tail : ∀ G1 r cc1 cm1 cr1, gs q S X Q kq lo t Lc Lm Lr e cc1 cm1 cr1 G1 → gtr S X lo hi t Lc Lm Lr G G1 → gpot S lo e cc1 cm1 cr1 ≤ gpot S lo (lw (S.2 34) e) cc cm cr + 4 * (e - lw (S.2 34) e) → cb (4 * (e - lw (S.2 34) e) + gpot S lo (lw (S.2 34) e) cc cm cr - gpot S lo e cc1 cm1 cr1) G G1 → r = 4 + gpot S lo e cc1 cm1 cr1 → wk_V q.1.1 mX3_gather (d, 4 * (e + 1 - lw (S.2 34) e) + gpot S lo (lw (S.2 34) e) cc cm cr, (fun v G' => v = none ∧ gaP q S X Q kq lo hi t Lc Lm Lr (lw (S.2 34) e) (e + 1) cc cm cr G G'), (fun _ _ _ => False), hp_cs G, hp_ss G) 51 [(0, vR (some q.1.2.1)), (1, vR (some (Q k))), (2, vR (some (X e)))] [] G1 r := by
        intro G1 r cc1 cm1 cr1 hS1 hR1 hp1 hb1 hr
        have hw1 := hw.gr0 hR1 ⟨hS.1.2.1, hS.1.2.2.1.1.1⟩ ⟨hS.2.1.2.1, hS.2.1.2.2.1.1.1⟩ ⟨hS.2.2.1.2.1, hS.2.2.1.2.2.1.1.1⟩
        have kd1 : hp_kd G1 (X e) = xk (S.2 32 e) := (hw1.2.2.1 e h1 h2).1.1.1
        have kX1 : 15 ≤ hp_kd G1 (X e) ∧ hp_kd G1 (X e) ≤ 21 := by rw [kd1, ← kd]; exact kX
        have k1 : 13 ≤ hp_kd G1 (X e) ∧ hp_kd G1 (X e) ≤ 21 := by omega
        have iC := hp_instCall k1
        have iM := hp_instM kX1
        have pc := apot_s hS1.1.2.2.1.2.1.1 hS1.1.2.2.2
        have pm := apot_s hS1.2.1.2.2.1.2.1.1 hS1.2.1.2.2.2
        have pr := apot_s hS1.2.2.1.2.2.1.2.1.1 hS1.2.2.1.2.2.2
        have lc : (cls S lo e).length < 2 ^ 20 := by have := cls_le (S := S) (lo := lo) (l := e); omega
        have lm : (mes S lo e).length < 2 ^ 20 := by have := mes_le (S := S) (lo := lo) (l := e); omega
        have hkind : (S.2 32 e = 3 ∧ hp_kd G1 (X e) = 21) ∨ (isM (S.2 32 e) ∧ ((hp_kd G1 (X e) = 17 ∧ (S.2 32 e = 5 ∨ S.2 32 e = 6)) ∨ (hp_kd G1 (X e) = 18 ∧ S.2 32 e = 24) ∨ (hp_kd G1 (X e) = 20 ∧ S.2 32 e = 25))) ∨ (S.2 32 e ≠ 3 ∧ ¬ isM (S.2 32 e) ∧ hp_kd G1 (X e) ≠ 21 ∧ hp_kd G1 (X e) ≠ 17 ∧ hp_kd G1 (X e) ≠ 18 ∧ hp_kd G1 (X e) ≠ 20) := by
          rw [kd1]
          rcases y3 with ⟨s, -⟩ | ⟨s, -⟩ | ⟨s, -⟩ | ⟨s, -⟩ | ⟨s, -⟩ | ⟨s, s2, -⟩ | ⟨s, s2, -⟩ | ⟨s, -⟩
          · rw [s]; decide
          · rw [s]; decide
          · rw [s]; decide
          · rw [s]; decide
          · rw [s]; decide
          · rcases lk_range _ ⟨s, s2⟩ with v | v | v | v | v | v | v | v | v | v | v | v | v | v | v | v | v <;> rw [v] <;> decide
          · rcases lk_range2 _ ⟨s, Int32.le_trans s2 (by decide)⟩ with v | v | v | v | v <;> rw [v] <;> decide
          · rw [s]; decide
        have lX : ∀ L, hp_kd G1 L = 22 → ∀ y, al_o G1 L y → ¬ y = X e := fun L kL y u w => by have := al_ok u kL; rw [w] at this; omega
        rcases hkind with ⟨s3, k21⟩ | ⟨sM, hk3⟩ | ⟨s3, sM, n21, n17, n18, n20⟩
        · -- a call
          rw [if_pos k21] at iC
          rw [if_neg (by omega)] at iM
          have hcE21 : ∀ a, some (X e) = some a → hp_kd G1 a ≠ 0 ∧ hp_kd G1 a < 28 ∧ hp_sub (hp_kd G1 a) "StreamNodes$Call" := fun a ha => by
            rw [← Option.some.inj ha, k21]
            exact ⟨by decide, by decide, Or.inl rfl⟩
          have e1 : cls S lo (e + 1) = cls S lo e ++ [e] := by rw [cls_s h1, if_pos s3]
          have e2 : mes S lo (e + 1) = mes S lo e := by rw [mes_s h1, if_neg (by rw [s3]; decide), List.append_nil]
          have f1 : cf (fun y => y = X e) G1 (hp_sI G1 (X e) 8 (nI (cls S lo e).length)) := cf.rf.sI (Or.inl rfl)
          have b1 := hS1.1.fr f1 rfl (lX Lc hS1.1.2.2.1.1.1)
          refine blX3_gather_51 iC (fun u => absurd u (by decide)) (fun _ => ?_)
          refine blX3_gather_58 hcE21 hw1.1.1 hw1.1.2.1 hw1.1.2.2.1 hS1.1.1 hS1.1.2.2.1.1.1 (J5_size_C (d := 0) hS1.1.2.2.1) (by show 0 + 1 ≤ d; omega) (Nat.zero_le _) ?_ (fun _ _ _ u => absurd u id)
          rintro v G9 ⟨rfl, rfl⟩
          refine blX3_gather_72 rfl k21 hA hw1.1.1 hw1.1.2.1 hw1.1.2.2.1 hcE21 hS1.1.1 hS1.1.2.2.1.1.1 (J5_add_C (d := 6) (x := some (X e)) b1.2.2.1 (hw1.2.1.fr f1) (fun y hy => by rw [← Option.some.inj hy]; show hp_kd G9 (X e) ≠ 0 ∧ hp_kd G9 (X e) < 28; omega) lc (Nat.le_refl 6)) (by show 6 + 1 ≤ d; omega) (by show al_b _ _ ≤ r - 0; rw [hr]; unfold gpot; omega) ?_ (fun _ _ _ u => absurd u id)
          rintro v G2 ⟨rfl, hq1⟩
          obtain ⟨w2, hgl⟩ := hS1.mid hw1 h1 h2 (nu := 8) (by rw [s3]; rfl) (Or.inl rfl) hS1.1.2.2.1.1.1 hq1
          have c3 := hgl _ _ _ _ _ hS1.2.2.1 hne.2.1.symm
          have hkk : kq e = k := hkq e hle (Nat.lt_succ_self e)
          refine blX3_gather_89 w2.1.1 w2.1.2.1 w2.1.2.2.1 c3.1 c3.2.2.1.1.1 (J5_add_C (d := 6) (x := some (Q k)) c3.2.2.1 w2.2.1 (fun y hy => by rw [← Option.some.inj hy, ← hkk, w2.2.2.2 e h1 h2]; decide) lc (Nat.le_refl 6)) (by show 6 + 1 ≤ d; omega) (by show al_b _ _ ≤ r - 0 - al_b _ _; rw [hr]; unfold gpot; omega) ?_ (fun _ _ _ u => absurd u id)
          rintro v G3 ⟨rfl, hq2⟩
          obtain ⟨t1, t2, -⟩ := hS1.call hw1 hne h1 h2 s3 hkk hq1 hq2
          have w3 := hw.gr0 (hR1.tr t2) ⟨hS.1.2.1, hS.1.2.2.1.1.1⟩ ⟨hS.2.1.2.1, hS.2.1.2.2.1.1.1⟩ ⟨hS.2.2.1.2.1, hS.2.2.1.2.2.1.1.1⟩
          have k3 : hp_kd G3 (X e) = 21 := t2.1.k k21 (by decide)
          have iM3 := hp_instM (G := G3) (x := X e) (by omega)
          rw [if_neg (by omega)] at iM3
          have eg : gpot S lo (e + 1) (al_c (cls S lo e).length cc1) cm1 (al_c (cls S lo e).length cr1) = apot ((cls S lo e).length + 1) (al_c (cls S lo e).length cc1) + apot (mes S lo e).length cm1 + apot ((cls S lo e).length + 1) (al_c (cls S lo e).length cr1) := by
            unfold gpot
            rw [e1, e2, List.length_append]
            rfl
          refine blX3_gather_101 (wk_cb (by show _ ≤ 4 * (e + 1 - lw (S.2 34) e) + gpot S lo (lw (S.2 34) e) cc cm cr; rw [hr]; omega) fun hcb => blX3_gather_102 iM3 (fun u => absurd rfl u) (fun _ => blX3_gather_109 ⟨rfl, _, _, _, t1, hR1.tr t2, ?_, hcb.mono ?_⟩))
          · rw [eg]; unfold gpot at hp1 ⊢; omega
          · rw [eg, hr]; unfold gpot at hp1 ⊢; omega
        · -- it has a memory
          have n21 : hp_kd G1 (X e) ≠ 21 := by omega
          rw [if_neg n21] at iC
          rw [if_pos (by omega)] at iM
          have iF := hp_instF (G := G1) (x := X e) (by omega)
          have n3 : S.2 32 e ≠ 3 := fun u => by rw [u] at sM; exact absurd sM (by decide)
          have e1 : cls S lo (e + 1) = cls S lo e := by rw [cls_s h1, if_neg n3, List.append_nil]
          have e2 : mes S lo (e + 1) = mes S lo e ++ [e] := by rw [mes_s h1, if_pos sM]
          -- from 181 on
          have m181 : ∀ nu, nuf (S.2 32 e) = nu → wk_V q.1.1 mX3_gather (d, 4 * (e + 1 - lw (S.2 34) e) + gpot S lo (lw (S.2 34) e) cc cm cr, (fun v G' => v = none ∧ gaP q S X Q kq lo hi t Lc Lm Lr (lw (S.2 34) e) (e + 1) cc cm cr G G'), (fun _ _ _ => False), hp_cs G, hp_ss G) 181 [(0, vR (some q.1.2.1)), (2, vR (some (X e)))] [] (hp_sI G1 (X e) nu (nI (mes S lo e).length)) r := by
            intro nu hnu
            have f1 : cf (fun y => y = X e) G1 (hp_sI G1 (X e) nu (nI (mes S lo e).length)) := cf.rf.sI (Or.inl rfl)
            have b2 := hS1.2.1.fr f1 rfl (lX Lm hS1.2.1.2.2.1.1.1)
            have g1 : gtr S X lo hi t Lc Lm Lr G1 (hp_sI G1 (X e) nu (nI (mes S lo e).length)) := by have := gtr.num (Lc := Lc) (Lm := Lm) (Lr := Lr) (v := nI (mes S lo e).length) h1 h2 hw1; rw [hnu] at this; exact this
            have w1' := hw1.gr0 g1 ⟨hS1.1.2.1, hS1.1.2.2.1.1.1⟩ ⟨hS1.2.1.2.1, hS1.2.1.2.2.1.1.1⟩ ⟨hS1.2.2.1.2.1, hS1.2.2.1.2.2.1.1.1⟩
            have hcM : ∀ a, some (X e) = some a → hp_kd (hp_sI G1 (X e) nu (nI (mes S lo e).length)) a ≠ 0 ∧ hp_kd (hp_sI G1 (X e) nu (nI (mes S lo e).length)) a < 28 ∧ hp_sub (hp_kd (hp_sI G1 (X e) nu (nI (mes S lo e).length)) a) "StreamNodes$Memory" := fun a ha => by
              rw [← Option.some.inj ha]
              refine ⟨by show hp_kd G1 (X e) ≠ 0; omega, by show hp_kd G1 (X e) < 28; omega, ?_⟩
              rcases iM with ⟨u, -⟩ | ⟨a', u1, -, -, u4⟩
              · cases u
              · rw [← Option.some.inj u1] at u4
                rcases u4 with ⟨-, u⟩ | ⟨u, -⟩
                · exact u
                · exact absurd u (by decide)
            refine blX3_gather_181 w1'.1.1 w1'.1.2.1 w1'.1.2.2.1 hcM b2.1 b2.2.2.1.1.1 (J5_add_C (d := 6) (x := some (X e)) b2.2.2.1 (hw1.2.1.fr f1) (fun y hy => by rw [← Option.some.inj hy]; show hp_kd G1 (X e) ≠ 0 ∧ hp_kd G1 (X e) < 28; omega) lm (Nat.le_refl 6)) (by show 6 + 1 ≤ d; omega) (by show al_b _ _ ≤ r; rw [hr]; unfold gpot; omega) ?_ (fun _ _ _ u => absurd u id)
            rintro v G2 ⟨rfl, hq1⟩
            obtain ⟨w2, -⟩ := hS1.mid hw1 h1 h2 hnu (Or.inr (Or.inl rfl)) hS1.2.1.2.2.1.1.1 hq1
            have k2 : hp_kd G2 (X e) = hp_kd G1 (X e) := by rw [(w2.2.2.1 e h1 h2).1.1.1, kd1]
            have iF2 := hp_instF (G := G2) (x := X e) (by omega)
            have eg : gpot S lo (e + 1) cc1 (al_c (mes S lo e).length cm1) cr1 = apot (cls S lo e).length cc1 + apot ((mes S lo e).length + 1) (al_c (mes S lo e).length cm1) + apot (cls S lo e).length cr1 := by
              unfold gpot
              rw [e1, e2, List.length_append]
              rfl
            subst hnu
            have fin : ∀ z : Int32, z = (if S.2 32 e = 6 then 2 else 1) → wk_V q.1.1 mX3_gather (d, 4 * (e + 1 - lw (S.2 34) e) + gpot S lo (lw (S.2 34) e) cc cm cr, (fun v G' => v = none ∧ gaP q S X Q kq lo hi t Lc Lm Lr (lw (S.2 34) e) (e + 1) cc cm cr G G'), (fun _ _ _ => False), hp_cs G, hp_ss G) 226 [] [vI z, vI (hp_i G2 t 10), vR (some t)] G2 (r - al_b (mes S lo e).length cm1) := fun z hz => by
              obtain ⟨t1, t2⟩ := hS1.mem hw1 hne h1 h2 sM hq1 hz
              refine wk_cb (by show _ ≤ 4 * (e + 1 - lw (S.2 34) e) + gpot S lo (lw (S.2 34) e) cc cm cr; rw [hr]; omega) fun hcb => blX3_gather_226 rfl w2.1.2.2.1 w2.1.2.2.2 ⟨rfl, _, _, _, t1, hR1.tr t2, ?_, (show cb _ G (hp_sI G2 t 10 (hp_i G2 t 10 + z)) from hcb).mono ?_⟩
              · rw [eg]; unfold gpot at hp1 ⊢; omega
              · rw [eg, hr]; unfold gpot at hp1 ⊢; omega
            have hcF : hp_kd G2 (X e) = 17 → ∀ a, some (X e) = some a → hp_kd G2 a ≠ 0 ∧ hp_kd G2 a < 28 ∧ hp_sub (hp_kd G2 a) "StreamNodes$First" := fun u a ha => by
              rw [← Option.some.inj ha, u]
              exact ⟨by decide, by decide, Or.inl rfl⟩
            have xw2 := (w2.2.2.1 e h1 h2).1.2.2.1
            refine blX3_gather_195 w2.1.1 w2.1.2.1 w2.1.2.2.1 iF2 (fun u => ?_) (fun u => ?_)
            · have n17 : hp_kd G2 (X e) ≠ 17 := fun w => by rw [if_pos w] at u; exact absurd u (by decide)
              rw [w2.1.2.1]
              exact blX3_gather_225 (fin 1 (by rw [if_neg (fun w => by rw [k2] at n17; rcases hk3 with ⟨v, -⟩ | ⟨-, v⟩ | ⟨-, v⟩; exact n17 v; rw [w] at v; exact absurd v (by decide); rw [w] at v; exact absurd v (by decide))]))
            · have k17 : hp_kd G2 (X e) = 17 := Decidable.byContradiction fun w => by rw [if_neg w] at u; exact absurd rfl u
              have s56 : S.2 32 e = 5 ∨ S.2 32 e = 6 := by rw [k2] at k17; rcases hk3 with ⟨-, v⟩ | ⟨v, -⟩ | ⟨v, -⟩; exact v; omega; omega
              rw [w2.1.2.1]
              refine blX3_gather_211 (hcF k17) rfl k17 (fun u => ?_) (fun u => ?_)
              · refine blX3_gather_225 (fin 1 (by rw [if_neg (fun w => by have := xw2.2.2.2.2.1 w; rw [this] at u; exact absurd u (by decide))]))
              · refine blX3_gather_221 (fin 2 (by rw [if_pos (s56.resolve_left (fun w => u (xw2.2.2.2.1 w)))]))
          refine blX3_gather_51 iC (fun _ => ?_) (fun u => absurd rfl u)
          refine blX3_gather_102 iM (fun _ => ?_) (fun u => absurd u (by decide))
          refine blX3_gather_110 iF (fun u => ?_) (fun u => ?_)
          · have n17 : hp_kd G1 (X e) ≠ 17 := fun w => by rw [if_pos w] at u; exact absurd u (by decide)
            have iB := hp_instB (G := G1) (x := X e) (by omega)
            refine blX3_gather_137 iB (fun u => ?_) (fun u => ?_)
            · have n18 : hp_kd G1 (X e) ≠ 18 := fun w => by rw [if_pos w] at u; exact absurd u (by decide)
              have k20 : hp_kd G1 (X e) = 20 := by omega
              have s25 : S.2 32 e = 25 := by rcases hk3 with ⟨v, -⟩ | ⟨v, -⟩ | ⟨-, v⟩; omega; omega; exact v
              refine blX3_gather_164 (fun a ha => by rw [← Option.some.inj ha, k20]; exact ⟨by decide, by decide, Or.inl rfl⟩) hw1.1.1 hw1.1.2.1 hw1.1.2.2.1 hS1.2.1.1 hS1.2.1.2.2.1.1.1 (J5_size_C (d := 0) hS1.2.1.2.2.1) (by show 0 + 1 ≤ d; omega) (Nat.zero_le _) ?_ (fun _ _ _ u => absurd u id)
              rintro v G9 ⟨rfl, rfl⟩
              exact blX3_gather_178 rfl k20 hA (m181 5 (by rw [s25]; rfl))
            · have k18 : hp_kd G1 (X e) = 18 := Decidable.byContradiction fun w => by rw [if_neg w] at u; exact absurd rfl u
              have s24 : S.2 32 e = 24 := by rcases hk3 with ⟨v, -⟩ | ⟨-, v⟩ | ⟨v, -⟩; omega; exact v; omega
              refine blX3_gather_144 (fun a ha => by rw [← Option.some.inj ha, k18]; exact ⟨by decide, by decide, Or.inl rfl⟩) hw1.1.1 hw1.1.2.1 hw1.1.2.2.1 hS1.2.1.1 hS1.2.1.2.2.1.1.1 (J5_size_C (d := 0) hS1.2.1.2.2.1) (by show 0 + 1 ≤ d; omega) (Nat.zero_le _) ?_ (fun _ _ _ u => absurd u id)
              rintro v G9 ⟨rfl, rfl⟩
              exact blX3_gather_158 rfl k18 hA (m181 5 (by rw [s24]; rfl))
          · have k17 : hp_kd G1 (X e) = 17 := Decidable.byContradiction fun w => by rw [if_neg w] at u; exact absurd rfl u
            have s56 : S.2 32 e = 5 ∨ S.2 32 e = 6 := by rcases hk3 with ⟨-, v⟩ | ⟨v, -⟩ | ⟨v, -⟩; exact v; omega; omega
            refine blX3_gather_117 (fun a ha => by rw [← Option.some.inj ha, k17]; exact ⟨by decide, by decide, Or.inl rfl⟩) hw1.1.1 hw1.1.2.1 hw1.1.2.2.1 hS1.2.1.1 hS1.2.1.2.2.1.1.1 (J5_size_C (d := 0) hS1.2.1.2.2.1) (by show 0 + 1 ≤ d; omega) (Nat.zero_le _) ?_ (fun _ _ _ u => absurd u id)
            rintro v G9 ⟨rfl, rfl⟩
            exact blX3_gather_131 rfl k17 hA (m181 6 (by rcases s56 with w | w <;> rw [w] <;> rfl))
        · rw [if_neg n21] at iC
          rw [if_neg (by omega)] at iM
          refine blX3_gather_51 iC (fun _ => ?_) (fun u => absurd rfl u)
          exact blX3_gather_102 iM (fun u => absurd rfl u) (fun _ => blX3_gather_109 ⟨rfl, gaP.none ⟨cc1, cm1, cr1, hS1, hR1, hp1, hb1⟩ h1 hle s3 sM⟩)
      have loop : ∀ (rest ds : List Nat) (l : Nat) (G1 : GH) (cc1 cm1 cr1 : Nat), ds ++ rest = kls S e → pw_k (lw (S.2 34)) l rest e → lw (S.2 34) e ≤ l → gs q S X Q kq lo t Lc Lm Lr l cc1 cm1 cr1 G1 → gtr S X lo hi t Lc Lm Lr G G1 → gpot S lo l cc1 cm1 cr1 ≤ gpot S lo (lw (S.2 34) e) cc cm cr + 4 * (l - lw (S.2 34) e) → cb (4 * (l - lw (S.2 34) e) + gpot S lo (lw (S.2 34) e) cc cm cr - gpot S lo l cc1 cm1 cr1) G G1 →
          wk_V q.1.1 mX3_gather (d, 4 * (e + 1 - lw (S.2 34) e) + gpot S lo (lw (S.2 34) e) cc cm cr, (fun v G' => v = none ∧ gaP q S X Q kq lo hi t Lc Lm Lr (lw (S.2 34) e) (e + 1) cc cm cr G G'), (fun _ _ _ => False), hp_cs G, hp_ss G) 16 [(0, vR (some q.1.2.1)), (1, vR (some (Q k))), (2, vR (some (X e))), (3, vR (some (X e))), (4, vI (nI ds.length))] [] G1 (4 * (e + 1 - l) + gpot S lo l cc1 cm1 cr1) := by
        intro rest
        induction rest with
        | nil =>
          intro ds l G1 cc1 cm1 cr1 hds hpk hl hS1 hR1 hp1 hb1
          rw [List.append_nil] at hds
          have el : l = e := hpk
          subst hds
          have hw1 := hw.gr0 hR1 ⟨hS.1.2.1, hS.1.2.2.1.1.1⟩ ⟨hS.2.1.2.1, hS.2.1.2.2.1.1.1⟩ ⟨hS.2.2.1.2.1, hS.2.2.1.2.2.1.1.1⟩
          obtain ⟨L, c, r3, hal⟩ := hw1.kids hpw hh h1 h2 h3
          have kX1 : 15 ≤ hp_kd G1 (X e) ∧ hp_kd G1 (X e) ≤ 21 := by rw [hR1.1.kd kX0]; exact kX
          refine blX3_gather_16 rfl kX1 r3 hal.1.1 (J5_size_C (d := 0) hal) (by show 0 + 1 ≤ d; omega) (Nat.zero_le _) ?_ (fun _ _ _ u => absurd u id)
          rintro v G9 ⟨rfl, rfl⟩
          refine blX3_gather_25 (fun _ => ?_) (fun u => absurd (nI_le (Nat.le_refl _) (by omega)) u)
          subst el
          exact tail _ _ cc1 cm1 cr1 hS1 hR1 hp1 hb1 (by show 4 * (l + 1 - l) + gpot S lo l cc1 cm1 cr1 - 0 = _; omega)
        | cons kk rest ihr =>
          intro ds l G1 cc1 cm1 cr1 hds hpk hl hS1 hR1 hp1 hb1
          obtain ⟨p1, p2, p3, p4⟩ := hpk
          have hw1 := hw.gr0 hR1 ⟨hS.1.2.1, hS.1.2.2.1.1.1⟩ ⟨hS.2.1.2.1, hS.2.1.2.2.1.1.1⟩ ⟨hS.2.2.1.2.1, hS.2.2.1.2.2.1.1.1⟩
          obtain ⟨L, c, r3, hal⟩ := hw1.kids hpw hh h1 h2 h3
          have kX1 : 15 ≤ hp_kd G1 (X e) ∧ hp_kd G1 (X e) ≤ 21 := by rw [hR1.1.kd kX0]; exact kX
          have hll : ds.length < (kls S e).length := by rw [← hds, List.length_append, List.length_cons]; omega
          have hgk : (kls S e).getD ds.length 0 = kk := by rw [← hds, List.getD_eq_getElem?_getD, List.getElem?_append_right (Nat.le_refl _), Nat.sub_self]; rfl
          refine blX3_gather_16 rfl kX1 r3 hal.1.1 (J5_size_C (d := 0) hal) (by show 0 + 1 ≤ d; omega) (Nat.zero_le _) ?_ (fun _ _ _ u => absurd u id)
          rintro v G9 ⟨rfl, rfl⟩
          refine blX3_gather_25 (fun u => absurd ((nI_leI (by omega) (by omega)).1 u) (by omega)) (fun _ => ?_)
          refine blX3_gather_28 rfl kX1 r3 hal.1.1 (J5_get_C (d := 2) (i := ds.length) hal hll (Nat.le_refl 2)) (by show 2 + 1 ≤ d; omega) (Nat.zero_le _) ?_ (fun _ _ _ u => absurd u id)
          rintro v G9 ⟨rfl, rfl⟩
          rw [hgk]
          have hmem : kk ∈ kls S e := by rw [← hds]; simp
          obtain ⟨u1, u2, u3⟩ := g3 kk hmem
          have k1 := hw1.k (e := kk) (by omega) (by omega)
          refine wk_have fun hA9 hB9 => ?_
          have hS1' := hS1
          rw [← p1] at hS1'
          refine blX3_gather_39 (hcE k1) rfl hw1.1.1 (ih kk (xh S e + 7) cc1 cm1 cr1 k G9 (by omega) u1 (by omega) hw1 hS1' (fun x x1 x2 => hkq x (by omega) (by omega)) (by omega)) (by show xh S e + 7 + 1 ≤ d; omega) (by rw [p1]; show _ ≤ 4 * (e + 1 - l) + gpot S lo l cc1 cm1 cr1 - 0 - 0; omega) ?_ (fun _ _ _ u => absurd u id)
          rintro v G3 ⟨rfl, cc2, cm2, cr2, s1, s2, s3, s4⟩
          rw [p1] at s3 s4
          refine wk_bk hA9 hB9 s4 (r' := 4 * (e + 1 - (kk + 1)) + gpot S lo (kk + 1) cc2 cm2 cr2) (by show _ ≤ 4 * (e + 1 - l) + gpot S lo l cc1 cm1 cr1 - 0 - 0; omega) ?_
          refine blX3_gather_45 ?_
          rw [nI_1, show ds.length + 1 = (ds ++ [kk]).length by rw [List.length_append]; rfl]
          exact ihr _ (kk + 1) _ cc2 cm2 cr2 (by rw [← hds]; simp) p4 (by omega) s1 (hR1.tr s2) (by omega) ((hb1.tr s4).mono (by omega))
      exact wk_less (by omega) (loop (kls S e) [] (lw (S.2 34) e) G cc cm cr rfl y2 (Nat.le_refl _) hS gtr.rf (by omega) cb.rf)
    · have h012 : S.2 32 e = 0 ∨ S.2 32 e = 1 ∨ S.2 32 e = 2 := by
        rcases y3 with ⟨s, -⟩ | ⟨s, -⟩ | ⟨s, -⟩ | ⟨s, -⟩ | ⟨s, -⟩ | ⟨s, s2, -⟩ | ⟨s, s2, -⟩ | ⟨s, -⟩
        · exact Or.inl s
        · exact Or.inr (Or.inl s)
        · exact Or.inr (Or.inr s)
        · exact absurd (by rw [s]; decide) h3
        · exact absurd (by rw [s]; decide) h3
        · exact absurd (Int32.le_trans (by decide) s) h3
        · exact absurd (Int32.le_trans (by decide) s) h3
        · exact absurd (by rw [s]; decide) h3
      have e0 : kls S e = [] := by
        have : (kls S e).length = 0 := by
          unfold pw_s at y3
          rcases h012 with u | u | u <;> rw [u] at y3
          · rcases y3 with ⟨-, w⟩ | ⟨w, -⟩ | ⟨w, -⟩ | ⟨w, -⟩ | ⟨w, -⟩ | ⟨w, -⟩ | ⟨w, -⟩ | ⟨w, -⟩ <;> first | exact w | exact absurd w (by decide)
          · rcases y3 with ⟨w, -⟩ | ⟨-, w, -⟩ | ⟨w, -⟩ | ⟨w, -⟩ | ⟨w, -⟩ | ⟨w, -⟩ | ⟨w, -⟩ | ⟨w, -⟩ <;> first | exact w | exact absurd w (by decide)
          · rcases y3 with ⟨w, -⟩ | ⟨w, -⟩ | ⟨-, w, -⟩ | ⟨w, -⟩ | ⟨w, -⟩ | ⟨w, -⟩ | ⟨w, -⟩ | ⟨w, -⟩ <;> first | exact w | exact absurd w (by decide)
        exact List.length_eq_zero_iff.1 this
      have el : lw (S.2 34) e = e := by rw [e0] at y2; exact y2
      have k15 : ¬ 15 ≤ hp_kd G (X e) := by
        rw [kd]
        rcases h012 with u | u | u <;> rw [u] <;> decide
      have i1 : hp_inst G (some (X e)) "StreamNodes$Together" 0 := by have := hp_instT hk; rw [if_neg k15] at this; exact this
      refine blX3_gather_0 i1 (fun u => absurd rfl u) (fun _ => blX3_gather_7 ⟨rfl, ?_⟩)
      have n3 : S.2 32 e ≠ 3 := by rcases h012 with u | u | u <;> rw [u] <;> decide
      have nM : ¬ isM (S.2 32 e) := by rcases h012 with u | u | u <;> rw [u] <;> decide
      rw [el] at g00 ⊢
      exact g00.none h1 (Nat.le_refl _) n3 nM
end
