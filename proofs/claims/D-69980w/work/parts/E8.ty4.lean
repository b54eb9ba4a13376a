/-! THE COMPONENT's finish: types of Call; the family -/
set_option maxRecDepth 100000
section
variable {q : PZ} {S : MS} {X : Nat → Nat} {lo hi b outs n : Nat} {G G0 G' : GH} {A A0 : Nat → Int32}
/-- how many values are wanted of a call -/
def wnt (q : PZ) (S : MS) (lo hi b outs : Nat) : Prop := ∀ x, lo ≤ x → x < hi → S.2 32 x = 3 → (qM q x = none ∧ (if x = b then outs else 1) = 1) ∨ ∃ k m, qM q x = some (k, m) ∧ (if x = b then outs else 1) = m
theorem X13_typed_C {e d D : Nat} (hw0 : tw q lo hi S X G) (hpw : pw S lo hi) (hh : hi ≤ 5000) (hJ : pj_V n S) (hwn : wnt q S lo hi b outs) (ho5 : outs ≤ 5000) (h1 : lo ≤ e) (h2 : e < hi) (hk : S.2 32 e = 3) (hD : D + 1 ≤ d) (hd : 3 ≤ d) (ih : tyIH q S X lo hi b outs D (kls S e)) : wk_C q.1.1 mX13_typed d 0 [vR (some (X e))] G (tdP q S X b outs A0 e G) (tyX q S X b outs A0 e G) := by
  obtain ⟨hlo, y0⟩ := hpw e h1 h2
  obtain ⟨y1, y2, y3⟩ := y0.kl (by omega)
  have h3 : 3 ≤ S.2 32 e := by rw [hk]; decide
  have hlen := pw_k_len _ _ y2
  have hv6 := hJ.1.N.2.2.2.1
  have hN60 := hJ.1.N.2.1
  obtain ⟨f, hf, e33⟩ : ∃ f, f < pr_N S ∧ S.2 33 e = nI f := by
    unfold pw_s at y3
    rw [hk] at y3
    rcases y3 with ⟨w, -⟩ | ⟨w, -⟩ | ⟨w, -⟩ | ⟨-, -, w⟩ | ⟨w, -⟩ | ⟨w, -⟩ | ⟨w, -⟩ | ⟨w, -⟩ <;> first | exact w | exact absurd w (by decide)
  have hf2 : f < 2 ^ 31 := by omega
  obtain ⟨bb, ii, oo, f1, f2, f3, f4, f5⟩ := hJ.2.2 f hf
  have jf : (S.2 33 e).toNatClampNeg = f := by rw [e33, nI_clamp hf2]
  have j12 : (S.2 12 f).toNatClampNeg = bb := by rw [f1, nI_clamp (by omega)]
  have j13 : (S.2 13 f).toNatClampNeg = ii := by rw [f2, nI_clamp (by omega)]
  have j14 : (S.2 14 f).toNatClampNeg = oo := by rw [f3, nI_clamp (by omega)]
  generalize hwv : (if e = b then outs else 1) = wv at *
  have hwv5 : wv ≤ 5000 := by rw [← hwv]; split <;> omega
  have hj : ∀ A, jt S A e (kls S e) wv = if (kls S e).length = ii ∧ wv = oo then jt_ok (jt_all A (S.2 24) bb (kls S e)) (S.2 24 (bb + ii)) else .inl 5 := fun A => by
    unfold jt
    rw [if_pos hk, jf, j12, j13, j14]
  -- the fields of the call in a later heap
  have fld : ∀ G1, tw q lo hi S X G1 → hp_kd G1 (X e) = 21 ∧ hp_r G1 (X e) 5 = some (qN q f) ∧ hp_i G1 (X e) 6 = nI wv := fun G1 w1 => by
    have x3 := (w1.2.1 e h1 h2).1.2.2.1.2.2.1 hk
    refine ⟨w1.kd3 h1 h2 hk, by rw [x3.1, jf], ?_⟩
    rcases x3.2 with ⟨u1, u2, -⟩ | ⟨k, m, u1, u2, -⟩
    · rcases hwn e h1 h2 hk with ⟨-, v2⟩ | ⟨k, m, v1, -⟩
      · rw [u2, ← hwv, v2]; rfl
      · rw [u1] at v1; cases v1
    · rcases hwn e h1 h2 hk with ⟨v1, -⟩ | ⟨k', m', v1, v2⟩
      · rw [u1] at v1; cases v1
      · rw [u1] at v1
        have := Option.some.inj v1
        have e2 : m = m' := congrArg Prod.snd this
        rw [u2, ← hwv, v2, e2]
  refine wk_C_of (by decide) rfl (Nat.le_of_ble_eq_true rfl) ?_
  refine blX13_typed_0 ?_
  have fin : ∀ (A : Nat → Int32) (G1 : GH), tyS q S X b outs (lw (S.2 34) e) A0 G (kls S e) e A G1 → wk_V q.1.1 mX13_typed (d, 0, tdP q S X b outs A0 e G, tyX q S X b outs A0 e G, hp_cs G, hp_ss G) 34 [(0, vR (some (X e)))] [] G1 0 := by
    intro A G1 hS
    have hw1 := hw0.wt hS.2.2.1 hlo (by omega)
    obtain ⟨L, c, r3, r4, hal⟩ := hw1.kids hpw hh h1 h2 h3
    obtain ⟨kx1, r5, i6⟩ := fld G1 hw1
    have kB : hp_kd G1 q.1.2.2.2.1 = 3 := hw1.1.1.2.1.1
    obtain ⟨⟨n1, n2, n3⟩, LV, cV, nV, VV, n4, n5, n6, n7⟩ := hw1.2.2.2 f hf
    have n6 : ii + oo ≤ nV := by unfold jg_n at n6; rw [j13, j14] at n6; exact n6
    have n7 : ∀ i, i < nV → hp_kd G1 (VV i) = 6 ∧ hp_r G1 (VV i) 1 = ty q.1.1 (S.2 24 (bb + i)) := fun i hi => by have := n7 i hi; unfold jg_n at this; rw [j12] at this; exact this
    have thr : ∀ kd, jt S A e (kls S e) wv = .inl kd → tyX q S X b outs A0 e G (hp_C (hp_kd G1 q.1.2.2.2.1)) q.1.2.2.2.1 (hp_sI G1 q.1.2.2.2.1 6 kd) := fun kd u => hS.thr hw1 rfl (by rw [hwv]; exact u)
    have bad5 : ¬ ((kls S e).length = ii ∧ wv = oo) → wk_V q.1.1 mX13_typed (d, 0, tdP q S X b outs A0 e G, tyX q S X b outs A0 e G, hp_cs G, hp_ss G) 65 [(0, vR (some (X e)))] [] G1 0 := fun u => by
      refine blX13_typed_65 kx1 (by rw [r4]; exact X1_wrong_C (d := 0) kB hw1.1.1.2.1.2) (by show 0 + 1 ≤ d; omega) (Nat.zero_le _) ?_ (fun _ _ _ u => absurd u id)
      rintro v G9 ⟨rfl, rfl⟩
      exact blX13_typed_73 rfl (by show hp_kd G1 _ ≠ 0; rw [kB]; decide) (by show hp_kd G1 _ < 28; rw [kB]; decide) (wk_out0 rfl (thr 5 (by rw [hj, if_neg u])))
    refine blX13_typed_34 kx1 r3 hal.1.1 (J5_size_C (d := 0) hal) (by show 0 + 1 ≤ d; omega) (Nat.zero_le _) ?_ (fun _ _ _ u => absurd u id)
    rintro v G9 ⟨rfl, rfl⟩
    refine blX13_typed_41 kx1 r5 n1 (fun u => bad5 (fun w => u (by rw [n2, f2, w.1]))) (fun u => ?_)
    rw [n2, f2] at u
    have u1 := (nI_eq (by omega) (by omega)).1 u
    refine blX13_typed_51 kx1 r5 n1 (fun u => ?_) (fun u => bad5 (fun w => u (by rw [n3, f3, i6, w.2])))
    rw [n3, f3, i6] at u
    have u2 := (nI_eq (by omega) (by omega)).1 u
    have hj2 := hj A
    rw [if_pos ⟨u1, u2.symm⟩] at hj2
    refine blX13_typed_74 ?_
    have h24 : ∀ i, i < ii + oo → S.2 24 (bb + i) = 0 ∨ S.2 24 (bb + i) = 1 := fun i hi => hJ.2.1 _ (by omega)
    have loop : ∀ (rest ds : List Nat), ds ++ rest = kls S e → jt_all A (S.2 24) bb (kls S e) = jt_all A (S.2 24) (bb + ds.length) rest → wk_V q.1.1 mX13_typed (d, 0, tdP q S X b outs A0 e G, tyX q S X b outs A0 e G, hp_cs G, hp_ss G) 76 [(0, vR (some (X e))), (1, vI (nI ds.length))] [] G9 0 := by
      intro rest
      induction rest with
      | nil =>
        intro ds hds hall
        rw [List.append_nil] at hds
        subst hds
        refine blX13_typed_76 kx1 r3 hal.1.1 (J5_size_C (d := 0) hal) (by show 0 + 1 ≤ d; omega) (Nat.zero_le _) ?_ (fun _ _ _ u => absurd u id)
        rintro v G9 ⟨rfl, rfl⟩
        refine blX13_typed_84 (fun _ => ?_) (fun u => absurd (nI_le (Nat.le_refl _) (by omega)) u)
        refine blX13_typed_136 kx1 r5 n1 n4 n5.1.1 (by rw [n2, f2]; exact J5_get_C (d := 2) (i := ii) n5 (by omega) (Nat.le_refl 2)) (by show 2 + 1 ≤ d; omega) (Nat.zero_le _) ?_ (fun _ _ _ u => absurd u id)
        rintro v G9 ⟨rfl, rfl⟩
        obtain ⟨w1, w2⟩ := n7 ii (by omega)
        refine blX13_typed_153 (fun y hy => ?_) rfl w1 ?_
        · rw [← Option.some.inj hy, w1]
          exact ⟨by decide, by decide, Or.inl rfl⟩
        · rw [w2]
          refine hS.end rfl ?_ (h24 ii (by omega))
          rw [hwv, hj2, hall]
          rfl
      | cons k rest ihr =>
        intro ds hds hall
        have hll : ds.length < (kls S e).length := by rw [← hds, List.length_append, List.length_cons]; omega
        have hgk : (kls S e).getD ds.length 0 = k := by rw [← hds, List.getD_eq_getElem?_getD, List.getElem?_append_right (Nat.le_refl _), Nat.sub_self]; rfl
        have hmem : k ∈ kls S e := by rw [← hds]; simp
        obtain ⟨s1, s2, s3, s4⟩ := hS.2.2.2 k hmem
        have kk := hw1.k (e := k) (by omega) (by omega)
        refine blX13_typed_76 kx1 r3 hal.1.1 (J5_size_C (d := 0) hal) (by show 0 + 1 ≤ d; omega) (Nat.zero_le _) ?_ (fun _ _ _ u => absurd u id)
        rintro v G9 ⟨rfl, rfl⟩
        refine blX13_typed_84 (fun u => absurd ((nI_leI (by omega) (by omega)).1 u) (by omega)) (fun _ => ?_)
        refine blX13_typed_87 kx1 r3 hal.1.1 (J5_get_C (d := 2) (i := ds.length) hal hll (Nat.le_refl 2)) (by show 2 + 1 ≤ d; omega) (Nat.zero_le _) ?_ (fun _ _ _ u => absurd u id)
        rintro v G9 ⟨rfl, rfl⟩
        rw [hgk]
        refine blX13_typed_95 (hcE kk) rfl kk kx1 r5 n1 n4 n5.1.1 (J5_get_C (d := 2) (i := ds.length) n5 (by omega) (Nat.le_refl 2)) (by show 2 + 1 ≤ d; omega) (Nat.zero_le _) ?_ (fun _ _ _ u => absurd u id)
        rintro v G9 ⟨rfl, rfl⟩
        obtain ⟨w1, w2⟩ := n7 ds.length (by omega)
        refine blX13_typed_112 (fun y hy => ?_) rfl w1 (fun u => ?_) (fun u => ?_)
        · rw [← Option.some.inj hy, w1]
          exact ⟨by decide, by decide, Or.inl rfl⟩
        · rw [s4, w2] at u
          have gg := (ty_01 hw1.1.2 s3 (h24 _ (by omega))).1 u
          refine blX13_typed_130 ?_
          rw [nI_1, show ds.length + 1 = (ds ++ [k]).length by rw [List.length_append]; rfl]
          refine ihr (ds ++ [k]) (by rw [← hds]; simp) ?_
          rw [hall, jt_all, gg, decide_eq_true rfl, Bool.true_and, List.length_append]
          rfl
        · rw [s4, w2] at u
          have gg : ¬ A k = S.2 24 (bb + ds.length) := fun w => u (by rw [w])
          refine blX13_typed_121 kx1 (by rw [r4]; exact X1_wrong_C (d := 0) kB hw1.1.1.2.1.2) (by show 0 + 1 ≤ d; omega) (Nat.zero_le _) ?_ (fun _ _ _ u => absurd u id)
          rintro v G8 ⟨rfl, rfl⟩
          exact blX13_typed_129 rfl (by show hp_kd G9 _ ≠ 0; rw [kB]; decide) (by show hp_kd G9 _ < 28; rw [kB]; decide) (wk_out0 rfl (thr 4 (by rw [hj2, hall, jt_all, decide_eq_false gg]; rfl)))
    exact loop (kls S e) [] rfl rfl
  have loop : ∀ (rest ds : List Nat) (l : Nat) (A : Nat → Int32) (G1 : GH), ds ++ rest = kls S e → pw_k (lw (S.2 34)) l rest e → tyS q S X b outs (lw (S.2 34) e) A0 G ds l A G1 →
      wk_V q.1.1 mX13_typed (d, 0, tdP q S X b outs A0 e G, tyX q S X b outs A0 e G, hp_cs G, hp_ss G) 2 [(0, vR (some (X e))), (1, vI (nI ds.length))] [] G1 0 := by
    intro rest
    induction rest with
    | nil =>
      intro ds l A G1 hds hpk hS
      rw [List.append_nil] at hds
      have el : l = e := hpk
      subst hds
      have hle : l ≤ hi := by omega
      have hw1 := hw0.wt hS.2.2.1 hlo hle
      obtain ⟨L, c, r3, r4, hal⟩ := hw1.kids hpw hh h1 h2 h3
      refine blX13_typed_2 (hw1.kd3 h1 h2 hk) r3 hal.1.1 (J5_size_C (d := 0) hal) (by show 0 + 1 ≤ d; omega) (Nat.zero_le _) ?_ (fun _ _ _ u => absurd u id)
      rintro v G9 ⟨rfl, rfl⟩
      rw [el] at hS
      exact blX13_typed_10 (fun _ => fin A _ hS) (fun u => absurd (nI_le (Nat.le_refl _) (by omega)) u)
    | cons k rest ihr =>
      intro ds l A G1 hds hpk hS
      obtain ⟨p1, p2, p3, p4⟩ := hpk
      have hw1 := hw0.wt hS.2.2.1 hlo (by omega)
      obtain ⟨L, c, r3, r4, hal⟩ := hw1.kids hpw hh h1 h2 h3
      have hll : ds.length < (kls S e).length := by rw [← hds, List.length_append, List.length_cons]; omega
      have hgk : (kls S e).getD ds.length 0 = k := by rw [← hds, List.getD_eq_getElem?_getD, List.getElem?_append_right (Nat.le_refl _), Nat.sub_self]; rfl
      refine blX13_typed_2 (hw1.kd3 h1 h2 hk) r3 hal.1.1 (J5_size_C (d := 0) hal) (by show 0 + 1 ≤ d; omega) (Nat.zero_le _) ?_ (fun _ _ _ u => absurd u id)
      rintro v G9 ⟨rfl, rfl⟩
      refine blX13_typed_10 (fun u => absurd ((nI_leI (by omega) (by omega)).1 u) (by omega)) (fun _ => ?_)
      refine blX13_typed_13 (hw1.kd3 h1 h2 hk) r3 hal.1.1 (J5_get_C (d := 2) (i := ds.length) hal hll (Nat.le_refl 2)) (by show 2 + 1 ≤ d; omega) (Nat.zero_le _) ?_ (fun _ _ _ u => absurd u id)
      rintro v G9 ⟨rfl, rfl⟩
      rw [hgk]
      have kk := hw1.k (e := k) (by have := hS.1; omega) (by omega)
      have hmem : k ∈ kls S e := by rw [← hds]; simp
      refine vkX13_typed_21 (hcE kk) rfl kk (ih k hmem A _ hw1) (by show D + 1 ≤ d; omega) (Nat.zero_le _) ?_ (fun E a G' u => wk_out0 rfl (hS.err p1 p2 p3 u))
      rintro v G2 hP
      obtain ⟨A2, rfl, t2, hS2, hA2⟩ := hS.step hw1 hpw hh hlo p1 p2 (by omega) hP
      refine blX13_typed_27 ?_
      rw [nI_1, show ds.length + 1 = (ds ++ [k]).length by rw [List.length_append]; rfl]
      exact ihr _ _ _ _ (by rw [← hds]; simp) p4 hS2
  exact loop (kls S e) [] (lw (S.2 34) e) A0 G rfl y2 tyS.z
/-- type, from typed of its class -/
theorem type_of {e d D : Nat} (hw : tw q lo hi S X G) (hpw : pw S lo hi) (h1 : lo ≤ e) (h2 : e < hi) (hC : wk_C q.1.1 (vt_typed (hp_kd G (X e))) D 0 [vR (some (X e))] G (tdP q S X b outs A e G) (tyX q S X b outs A e G)) (hd : D + 1 ≤ d) : wk_C q.1.1 mX11_type d 0 [vR (some (X e))] G (tyP q S X b outs A e G) (tyX q S X b outs A e G) := by
  have hk := hw.k h1 h2
  have hA := (hw.2.1 e h1 h2).1.1.2
  have hle : lw (S.2 34) e ≤ e := by
    obtain ⟨-, ks, -, g, -⟩ := hpw e h1 h2
    exact (pw_k_mem _ _ g).1
  refine wk_C_of (by decide) rfl (Nat.le_of_ble_eq_true rfl) ?_
  refine vkX11_type_0 hk hC hd (Nat.zero_le _) ?_ (fun E a G' u => wk_out0 rfl u)
  rintro v G1 ⟨A', t, p1, p2, p3, rfl, p4⟩
  have hk1 : 13 ≤ hp_kd G1 (X e) ∧ hp_kd G1 (X e) ≤ 21 := by rw [p4.1.kd (by omega)]; exact hk
  have eu : (jg_up A' e t) e = t := by unfold jg_up; rw [if_pos rfl]
  refine blX11_type_5 rfl hk1 hA hk1 ⟨jg_up A' e t, ?_, by rw [eu]; exact p3, ?_, ?_, (p4.mono (Nat.le_refl _) (by omega)).wr hle (by omega) (by decide)⟩
  · rw [show e + 1 - lw (S.2 34) e = (e - lw (S.2 34) e) + 1 by omega, jg_ty_go p1, show lw (S.2 34) e + (e - lw (S.2 34) e) = e by omega, jg_ty_1, p2]
  · rw [hp_r_sR, if_pos rfl, if_pos rfl, eu]
  · rw [hp_r_sR, if_pos rfl, if_pos rfl, eu]
theorem X11_type_C (hpw : pw S lo hi) (hh : hi ≤ 5000) (hJ : pj_V n S) (hwn : wnt q S lo hi b outs) (ho5 : outs ≤ 5000) : ∀ m e d A G, xh S e < m → lo ≤ e → e < hi → tw q lo hi S X G → 3 * xh S e + 5 ≤ d → wk_C q.1.1 mX11_type d 0 [vR (some (X e))] G (tyP q S X b outs A e G) (tyX q S X b outs A e G) := by
  intro m
  induction m with
  | zero => intro e d A G hm; omega
  | succ m ih =>
    intro e d A G hm h1 h2 hw hd
    obtain ⟨⟨g1, g2⟩, g3⟩ := hw.hts hpw hh h1 h2
    have hih : tyIH q S X lo hi b outs (3 * xh S e + 2) (kls S e) := fun k hk A G hw => by
      obtain ⟨u1, u2, u3⟩ := g3 k hk
      exact ih k _ A G (by omega) u1 (by omega) hw (by omega)
    have ks := (hpw e h1 h2).2
    have y3 := (ks.kl (by omega)).2.2
    refine type_of (D := 3 * xh S e + 4) hw hpw h1 h2 ?_ hd
    have kd := (hw.2.1 e h1 h2).1.1.1
    rcases y3 with ⟨s, -⟩ | ⟨s, -⟩ | ⟨s, -⟩ | ⟨s, -⟩ | ⟨s, -⟩ | ⟨s, s2, -⟩ | ⟨s, s2, -⟩ | ⟨s, -⟩
    · rw [show hp_kd G (X e) = 13 by rw [kd, s]; rfl, vt_typed_13]
      exact X18_typed_C hw hpw hh h1 h2 (Or.inl s)
    · rw [show hp_kd G (X e) = 13 by rw [kd, s]; rfl, vt_typed_13]
      exact X18_typed_C hw hpw hh h1 h2 (Or.inr s)
    · rw [show hp_kd G (X e) = 14 by rw [kd, s]; rfl, vt_typed_14]
      exact X19_typed_C hw hpw hh hJ h1 h2 s
    · rw [hw.kd3 h1 h2 s, vt_typed_21]
      exact X13_typed_C hw hpw hh hJ hwn ho5 h1 h2 s (by omega) (by omega) hih
    · rw [hw.kd4 h1 h2 s, vt_typed_16]
      exact X14_typed_C hw hpw hh h1 h2 s (by omega) (by omega) hih
    · rcases Classical.em (S.2 32 e = 5 ∨ S.2 32 e = 6) with u | u
      · rw [hw.kd56 h1 h2 u, vt_typed_17]
        exact X21_typed_C hw hpw hh h1 h2 u (by omega) (by omega) hih
      · have h7 : 7 ≤ S.2 32 e ∧ S.2 32 e ≤ 23 := by
          refine ⟨?_, Int32.le_trans s2 (by decide)⟩
          rcases lk_range _ ⟨s, s2⟩ with v | v | v | v | v | v | v | v | v | v | v | v | v | v | v | v | v <;> first | (rw [v]; decide) | exact absurd (Or.inl v) u | exact absurd (Or.inr v) u
        rw [hw.kdop h1 h2 h7, vt_typed_15]
        exact X15_typed_C hw hpw hh h1 h2 h7 (by omega) (by omega) hih
    · rcases lk_range2 _ ⟨s, Int32.le_trans s2 (by decide)⟩ with v | v | v | v | v
      · have h7 : 7 ≤ S.2 32 e ∧ S.2 32 e ≤ 23 := by rw [v]; decide
        rw [hw.kdop h1 h2 h7, vt_typed_15]
        exact X15_typed_C hw hpw hh h1 h2 h7 (by omega) (by omega) hih
      · have h7 : 7 ≤ S.2 32 e ∧ S.2 32 e ≤ 23 := by rw [v]; decide
        rw [hw.kdop h1 h2 h7, vt_typed_15]
        exact X15_typed_C hw hpw hh h1 h2 h7 (by omega) (by omega) hih
      · rw [hw.kd24 h1 h2 v, vt_typed_18]
        exact X16_typed_C hw hpw hh h1 h2 v (by omega) (by omega) hih
      · rw [hw.kd25 h1 h2 v, vt_typed_20]
        exact X17_typed_C hw hpw hh h1 h2 v (by omega) (by omega) hih
      · rw [v] at s2; exact absurd s2 (by decide)
    · rw [hw.kd26 h1 h2 s, vt_typed_19]
      exact X20_typed_C hw hpw hh h1 h2 s (by omega) (by omega) hih
end
