/-! THE COMPONENT's finish: clocks of the classes -/
set_option maxRecDepth 100000
section
variable {q : PZ} {S : MS} {X : Nat → Nat} {lo hi n a : Nat} {G G0 G' : GH} {C C0 : Nat → Int32}
theorem X18_clocked_C {e d r : Nat} (hw : tw q lo hi S X G) (hpw : pw S lo hi) (hh : hi ≤ 5000) (h1 : lo ≤ e) (h2 : e < hi) (hk : S.2 32 e = 0 ∨ S.2 32 e = 1) : wk_C q.1.1 mX18_clocked d r [vR (some (X e))] G (cdP q S X C e G) (ckX q S X C e G) := by
  obtain ⟨y1, y2, y3⟩ := (hpw e h1 h2).2.kl (by omega)
  have e0 : kls S e = [] := by
    have : (kls S e).length = 0 := by
      unfold pw_s at y3
      rcases hk with u | u <;> rw [u] at y3
      · rcases y3 with ⟨-, w⟩ | ⟨w, -⟩ | ⟨w, -⟩ | ⟨w, -⟩ | ⟨w, -⟩ | ⟨w, -⟩ | ⟨w, -⟩ | ⟨w, -⟩ <;> first | exact w | exact absurd w (by decide)
      · rcases y3 with ⟨w, -⟩ | ⟨-, w, -⟩ | ⟨w, -⟩ | ⟨w, -⟩ | ⟨w, -⟩ | ⟨w, -⟩ | ⟨w, -⟩ | ⟨w, -⟩ <;> first | exact w | exact absurd w (by decide)
    exact List.length_eq_zero_iff.1 this
  rw [e0] at y2
  have el : lw (S.2 34) e = e := y2
  obtain ⟨x, y, z1, z2, -⟩ := hw.1.2.2.2.1
  refine wk_C_of (by decide) rfl (Nat.le_of_ble_eq_true rfl) ?_
  refine wk_sub [] trivial ?_
  refine blX18_clocked_0 ?_
  rw [show hp_sv q.1.1 "StreamNodes" "ANY" = some y from z2]
  refine (ckS.z (l0 := e)).end (t := -2) el ?_ (Or.inl ⟨rfl, z2⟩)
  unfold jc
  rw [e0]
  rcases hk with u | u <;> rw [u] <;> rfl
theorem X19_clocked_C {e d r : Nat} (hw : tw q lo hi S X G) (hpw : pw S lo hi) (hh : hi ≤ 5000) (hJ : pj_V n S) (h1 : lo ≤ e) (h2 : e < hi) (hk : S.2 32 e = 2) : wk_C q.1.1 mX19_clocked d r [vR (some (X e))] G (cdP q S X C e G) (ckX q S X C e G) := by
  obtain ⟨x1, -, x3, -⟩ := (hw.2.1 e h1 h2).1
  obtain ⟨y1, y2, y3⟩ := (hpw e h1 h2).2.kl (by omega)
  have hv6 := hJ.1.N.2.2.2.1
  obtain ⟨e0, v, w1, w2⟩ : (kls S e).length = 0 ∧ ∃ v, pr_a S + v < pr_v S ∧ S.2 33 e = nI v := by
    unfold pw_s at y3
    rw [hk] at y3
    rcases y3 with ⟨w, -⟩ | ⟨w, -⟩ | ⟨-, w⟩ | ⟨w, -⟩ | ⟨w, -⟩ | ⟨w, -⟩ | ⟨w, -⟩ | ⟨w, -⟩ <;> first | exact w | exact absurd w (by decide)
  have e0 : kls S e = [] := List.length_eq_zero_iff.1 e0
  rw [e0] at y2
  have el : lw (S.2 34) e = e := y2
  have kx : hp_kd G (X e) = 14 := by rw [x1.1, hk]; rfl
  have hv2 : v < 2 ^ 31 := by omega
  obtain ⟨F, hF⟩ := hw.2.2.1 (pr_a S + v) (Nat.le_add_right _ _) w1
  obtain ⟨-, -, -, -, -, bb, b1, b2⟩ := id hF
  refine wk_C_of (by decide) rfl (Nat.le_of_ble_eq_true rfl) ?_
  refine blX19_clocked_0 kx (x3.2.1 hk) (by rw [w2, nI_clamp hv2]; exact hF.1.1) ?_
  rw [w2, nI_clamp hv2, b1]
  refine (ckS.z (l0 := e)).end (t := S.2 22 (pr_a S + v)) el ?_ b2.bc
  unfold jc
  rw [if_pos hk, w2, nI_clamp hv2]
  rfl
/-- Together: one clock for all parts -/
theorem X12_clocked_C {e d D : Nat} (hw0 : tw q lo hi S X G) (hpw : pw S lo hi) (hh : hi ≤ 5000) (hJ : pj_V n S) (h1 : lo ≤ e) (h2 : e < hi) (h3 : 3 ≤ S.2 32 e) (hk : S.2 32 e ≠ 25 ∧ S.2 32 e ≠ 26) (hD : D + 1 ≤ d) (hd : 3 ≤ d) (ih : ckIH q S X lo hi D (kls S e)) : wk_C q.1.1 mX12_clocked d (e + 1 - lw (S.2 34) e) [vR (some (X e))] G (cdP q S X C0 e G) (ckX q S X C0 e G) := by
  obtain ⟨hlo, y0⟩ := hpw e h1 h2
  obtain ⟨y1, y2, y3⟩ := y0.kl (by omega)
  have hlen := pw_k_len _ _ y2
  have hjc : ∀ C', jc S C' e (kls S e) = jc_all C' (-2) (kls S e) := fun C' => by
    unfold jc
    rw [if_neg (fun u => by rw [u] at h3; exact absurd h3 (by decide)), if_neg hk.2, if_neg hk.1]
  have kX : 15 ≤ hp_kd G (X e) ∧ hp_kd G (X e) ≤ 21 := by
    have r := hw0.k h1 h2
    have : hp_kd G (X e) = xk (S.2 32 e) := (hw0.2.1 e h1 h2).1.1.1
    have h0 : ¬ (S.2 32 e = 0 ∨ S.2 32 e = 1) := by rintro (u | u) <;> rw [u] at h3 <;> exact absurd h3 (by decide)
    have h02 : ¬ S.2 32 e = 2 := fun u => by rw [u] at h3; exact absurd h3 (by decide)
    refine ⟨?_, r.2⟩
    rw [this]
    unfold xk
    rw [if_neg h0, if_neg h02]
    repeat' split
    all_goals decide
  have kX0 : hp_kd G (X e) ≠ 0 := by omega
  refine wk_C_of (by decide) rfl (Nat.le_of_ble_eq_true rfl) ?_
  refine blX12_clocked_0 ?_
  have loop : ∀ (rest ds : List Nat) (l : Nat) (C : Nat → Int32) (G1 : GH) (bb : Nat) (cc : Int32), ds ++ rest = kls S e → pw_k (lw (S.2 34)) l rest e → ckS q S X (lw (S.2 34) e) C0 G l C G1 → (∀ j ∈ ds, j < l) → bc q (pr_a S) G1 bb cc → jq S cc → (∀ C', (∀ j, j < l → C' j = C j) → jc_all C' (-2) (kls S e) = jc_all C' cc rest) →
      wk_V q.1.1 mX12_clocked (d, e + 1 - lw (S.2 34) e, cdP q S X C0 e G, ckX q S X C0 e G, hp_cs G, hp_ss G) 6 [(0, vR (some (X e))), (1, vR (some bb)), (2, vI (nI ds.length))] [] G1 (e + 1 - l) := by
    intro rest
    induction rest with
    | nil =>
      intro ds l C G1 bb cc hds hpk hS hdl hb hq hall
      rw [List.append_nil] at hds
      have el : l = e := hpk
      subst hds
      have hle : l ≤ hi := by omega
      have hw1 := hw0.wt hS.2.2.1 hlo hle
      obtain ⟨L, c, r3, r4, hal⟩ := hw1.kids hpw hh h1 h2 h3
      have kX1 : 15 ≤ hp_kd G1 (X e) ∧ hp_kd G1 (X e) ≤ 21 := by rw [hS.2.2.1.1.kd kX0]; exact kX
      refine blX12_clocked_6 kX1 r3 hal.1.1 (J5_size_C (d := 0) hal) (by show 0 + 1 ≤ d; omega) (Nat.zero_le _) ?_ (fun _ _ _ u => absurd u id)
      rintro v G9 ⟨rfl, rfl⟩
      refine blX12_clocked_14 (fun _ => ?_) (fun u => absurd (nI_le (Nat.le_refl _) (by omega)) u)
      rw [el] at hS
      exact blX12_clocked_75 (hS.end rfl (t := cc) (by rw [hjc, hall C (fun _ _ => rfl)]; rfl) hb)
    | cons k rest ihr =>
      intro ds l C G1 bb cc hds hpk hS hdl hb hq hall
      obtain ⟨p1, p2, p3, p4⟩ := hpk
      have hl0 := hS.1
      have hw1 := hw0.wt hS.2.2.1 hlo (by omega)
      obtain ⟨L, c, r3, r4, hal⟩ := hw1.kids hpw hh h1 h2 h3
      have kX1 : 15 ≤ hp_kd G1 (X e) ∧ hp_kd G1 (X e) ≤ 21 := by rw [hS.2.2.1.1.kd kX0]; exact kX
      have hll : ds.length < (kls S e).length := by rw [← hds, List.length_append, List.length_cons]; omega
      have hgk : (kls S e).getD ds.length 0 = k := by rw [← hds, List.getD_eq_getElem?_getD, List.getElem?_append_right (Nat.le_refl _), Nat.sub_self]; rfl
      refine blX12_clocked_6 kX1 r3 hal.1.1 (J5_size_C (d := 0) hal) (by show 0 + 1 ≤ d; omega) (Nat.zero_le _) ?_ (fun _ _ _ u => absurd u id)
      rintro v G9 ⟨rfl, rfl⟩
      refine blX12_clocked_14 (fun u => absurd ((nI_leI (by omega) (by omega)).1 u) (by omega)) (fun _ => ?_)
      refine blX12_clocked_17 kX1 r3 hal.1.1 (J5_get_C (d := 2) (i := ds.length) hal hll (Nat.le_refl 2)) (by show 2 + 1 ≤ d; omega) (Nat.zero_le _) ?_ (fun _ _ _ u => absurd u id)
      rintro v G9 ⟨rfl, rfl⟩
      rw [hgk]
      have kk := hw1.k (e := k) (by omega) (by omega)
      have hmem : k ∈ kls S e := by rw [← hds]; simp
      refine vkX12_clocked_25 (hcE kk) rfl kk (ih k hmem C _ hw1) (by show D + 1 ≤ d; omega) (by show k + 1 - lw (S.2 34) k ≤ e + 1 - l - 0 - 0; omega) ?_ (fun E a G' u => wk_out0 rfl (hS.err p1 p2 p3 u))
      rintro v G2 hP
      obtain ⟨C2, rfl, hS2, hC2⟩ := hS.step hw1 hpw hh hlo p1 p2 (by omega) hP
      have hw2 := hw0.wt hS2.2.2.1 hlo (by omega)
      obtain ⟨⟨b2, c1, c2⟩, cq⟩ := hS2.2.2.2 k (by omega) (by omega)
      have hb2 : bc q (pr_a S) G2 bb cc := hb.fr hP.choose_spec.2.2.1.1 (by
        rintro y ⟨x, u1, u2, rfl⟩
        have := hw1.k (e := x) (by omega) (by omega)
        omega)
      have hds2 : (ds ++ [k]) ++ rest = kls S e := by rw [← hds]; simp
      have hlen2 : nI ds.length + 1 = nI (ds ++ [k]).length := by rw [nI_1, List.length_append]; rfl
      have hdl2 : ∀ j ∈ ds ++ [k], j < k + 1 := fun j hj => by
        rcases List.mem_append.1 hj with hj | hj
        · have := hdl j hj; omega
        · rw [List.mem_singleton.1 hj]; omega
      have step : ∀ C', (∀ j, j < k + 1 → C' j = C2 j) → jc_all C' (-2) (kls S e) = match jc_two cc (C2 k) with
          | .inl e => .inl e
          | .inr c2 => jc_all C' c2 rest := fun C' hC' => by
        rw [hall C' (fun j hj => by rw [hC' j (by omega), hC2 j hj]), jc_all, hC' k (by omega)]
        rfl
      have nxt : ∀ b3 c3, jc_two cc (C2 k) = .inr c3 → bc q (pr_a S) G2 b3 c3 → jq S c3 → wk_V q.1.1 mX12_clocked (d, e + 1 - lw (S.2 34) e, cdP q S X C0 e G, ckX q S X C0 e G, hp_cs G, hp_ss G) 69 [(0, vR (some (X e))), (1, vR (some b3)), (2, vI (nI ds.length))] [] G2 (e + 1 - (k + 1)) := fun b3 c3 u1 u2 u3 => by
        refine blX12_clocked_69 ?_
        rw [hlen2]
        refine ihr _ _ _ _ _ _ hds2 p4 hS2 hdl2 u2 u3 (fun C' hC' => ?_)
        rw [step C' hC', u1]
      refine wk_less (r' := e + 1 - (k + 1)) (by show _ ≤ e + 1 - l - 0 - 0 - (k + 1 - lw (S.2 34) k); omega) ?_
      show wk_V q.1.1 mX12_clocked _ 31 [(0, vR (some (X e))), (1, vR (some bb)), (2, vI (nI ds.length))] [vR (hp_r G2 (X k) 1)] G2 _
      rw [c1]
      have a1 := hb2.any hw2.1.2
      have a2 := c2.any hw2.1.2
      refine blX12_clocked_31 (fun u => ?_) (fun u => ?_)
      · have ncc : cc ≠ -2 := fun w => u (a1.2 w)
        refine blX12_clocked_44 (fun u2 => ?_) (fun u2 => ?_)
        · have w := a2.1 u2
          exact nxt bb cc (by unfold jc_two; rw [if_neg ncc, w, if_pos (Or.inl rfl)]) hb2 hq
        · have w : C2 k ≠ -2 := fun w => u2 (a2.2 w)
          refine blX12_clocked_51 (X1_alike_C (d := 0) hw2.1.2 hb2 c2 ncc w (hw2.vinj hJ.1 hq cq)) (by show 0 + 1 ≤ d; omega) (Nat.zero_le _) ?_ (fun _ _ _ u => absurd u id)
          rintro v G8 ⟨rfl, rfl⟩
          by_cases ec : cc = C2 k
          · rw [if_pos ec]
            refine blX12_clocked_56 (fun _ => ?_) (fun v => absurd v (by decide))
            exact nxt bb cc (by unfold jc_two; rw [if_neg ncc, if_pos (Or.inr ec)]) hb2 hq
          · rw [if_neg ec]
            refine blX12_clocked_56 (fun v => absurd rfl v) (fun _ => ?_)
            obtain ⟨L2, c2', r32, r42, hal2⟩ := hw2.kids hpw hh h1 h2 h3
            have kX2 : 15 ≤ hp_kd G8 (X e) ∧ hp_kd G8 (X e) ≤ 21 := by rw [hS2.2.2.1.1.kd kX0]; exact kX
            have kB : hp_kd G8 q.1.2.2.2.1 = 3 := hw2.1.1.2.1.1
            refine blX12_clocked_59 kX2 (by rw [r42]; exact X1_wrong_C (d := 0) kB hw2.1.1.2.1.2) (by show 0 + 1 ≤ d; omega) (Nat.zero_le _) ?_ (fun _ _ _ u => absurd u id)
            rintro v G7 ⟨rfl, rfl⟩
            refine blX12_clocked_68 rfl (by show hp_kd G8 _ ≠ 0; rw [kB]; decide) (by show hp_kd G8 _ < 28; rw [kB]; decide) (wk_out0 rfl (hS2.thr hw2 hpw hh hlo h2 (by omega) rfl (fun C' hC' => ?_)))
            rw [hjc, step C' hC']
            have : jc_two cc (C2 k) = .inl 6 := by unfold jc_two; rw [if_neg ncc, if_neg (by rintro (v | v); exact w v; exact ec v)]
            rw [this]
      · have w := a1.1 u
        refine blX12_clocked_39 ?_
        exact nxt b2 (C2 k) (by unfold jc_two; rw [if_pos w]) c2 cq
  obtain ⟨x, y, z1, z2, -⟩ := hw0.1.2.2.2.1
  have h := loop (kls S e) [] (lw (S.2 34) e) C0 G y (-2) rfl y2 ckS.z (fun j hj => by cases hj) (Or.inl ⟨rfl, z2⟩) (Or.inl rfl) (fun _ _ => rfl)
  rw [show hp_sv q.1.1 "StreamNodes" "ANY" = some y from z2]
  exact h
theorem X20_clocked_C {e d D : Nat} (hw0 : tw q lo hi S X G) (hpw : pw S lo hi) (hh : hi ≤ 5000) (hJ : pj_V n S) (h1 : lo ≤ e) (h2 : e < hi) (hk : S.2 32 e = 26) (hD : D + 1 ≤ d) (hd : 3 ≤ d) (ih : ckIH q S X lo hi D (kls S e)) : wk_C q.1.1 mX20_clocked d (e + 1 - lw (S.2 34) e) [vR (some (X e))] G (cdP q S X C0 e G) (ckX q S X C0 e G) := by
  obtain ⟨hlo, y0⟩ := hpw e h1 h2
  obtain ⟨y1, y2, y3⟩ := y0.kl (by omega)
  have hv6 := hJ.1.N.2.2.2.1
  have h3 : 3 ≤ S.2 32 e := by rw [hk]; decide
  obtain ⟨k0, e3⟩ := ls_1 (pw_len_26 hk y3)
  obtain ⟨vv, ss, v1, v2, v3, v4⟩ : ∃ v s, s < 2 ∧ pr_a S + v < pr_v S ∧ S.2 24 (pr_a S + v) ≠ 0 ∧ S.2 33 e = nI (2 * v + s) := by
    unfold pw_s at y3
    rw [hk] at y3
    rcases y3 with ⟨w, -⟩ | ⟨w, -⟩ | ⟨w, -⟩ | ⟨w, -⟩ | ⟨w, -⟩ | ⟨-, w, -⟩ | ⟨-, w, -⟩ | ⟨-, -, w⟩ <;> first | exact w | exact absurd w (by decide)
  rw [e3] at y2
  obtain ⟨q01, q02, q03, q9⟩ := y2
  have q9 : k0 + 1 = e := q9
  have hS0 : ckS q S X (lw (S.2 34) e) C0 G (lw (S.2 34) e) C0 G := ckS.z
  -- the variable
  have fld : ∀ G1, tw q lo hi S X G1 → hp_kd G1 (X e) = 19 ∧ hp_r G1 (X e) 5 = some (qV q (pr_a S + vv)) ∧ hp_i G1 (X e) 6 = nI ss ∧ hp_kd G1 (qV q (pr_a S + vv)) = 6 ∧ ∃ bb, hp_r G1 (qV q (pr_a S + vv)) 4 = some bb ∧ bc q (pr_a S) G1 bb (jc_v S vv) := fun G1 w1 => by
    obtain ⟨k, t, t1, t2, t3, t4, t5⟩ := (w1.2.1 e h1 h2).1.2.2.1.2.2.2.2.2.2 hk
    rw [v4] at t3
    have := (nI_eq (by omega) (by omega)).1 t3
    have ek : k = vv := by omega
    have es : t = ss := by omega
    subst ek es
    obtain ⟨F, hF⟩ := w1.2.2.1 (pr_a S + k) (Nat.le_add_right _ _) v2
    obtain ⟨-, -, -, -, -, bb, b1, b2⟩ := id hF
    exact ⟨w1.kd26 h1 h2 hk, t4, t5, hF.1.1, bb, b1, b2.bc⟩
  have jvv : (S.2 33 e).toNatClampNeg / 2 = vv := by rw [v4, nI_clamp (by omega)]; omega
  have hjc : ∀ C', jc S C' e (kls S e) = match jc_two (C' k0) (jc_v S vv) with
      | .inl k => .inl k
      | .inr _ => .inr (S.2 33 e) := fun C' => by
    unfold jc
    rw [if_neg (by rw [hk]; decide), if_pos hk, jvv, e3]
    rfl
  obtain ⟨L0, c0, r30, r40, hal0⟩ := hw0.kids hpw hh h1 h2 h3
  rw [e3] at hal0
  refine wk_C_of (by decide) rfl (Nat.le_of_ble_eq_true rfl) ?_
  refine blX20_clocked_0 (hw0.kd26 h1 h2 hk) r30 hal0.1.1 (J5_get_C (d := 2) (i := 0) hal0 (by show 0 < 1; decide) (Nat.le_refl 2)) (by show 2 + 1 ≤ d; omega) (Nat.zero_le _) ?_ (fun _ _ _ u => absurd u id)
  rintro v G9 ⟨rfl, rfl⟩
  have kk0 := hw0.k (e := k0) (by omega) (by omega)
  refine vkX20_clocked_8 (hcE kk0) rfl kk0 (ih k0 (by rw [e3]; simp) C0 _ hw0) (by show D + 1 ≤ d; omega) (by show k0 + 1 - lw (S.2 34) k0 ≤ e + 1 - lw (S.2 34) e - 0; omega) ?_ (fun E a G' u => wk_out0 rfl (by have := hS0.err q01 (by omega) (by omega) u; exact this))
  rintro v G1 hP0
  obtain ⟨C1, rfl, hS1, hC1⟩ := hS0.step hw0 hpw hh hlo q01 (by omega) (by omega) hP0
  have hw1 := hw0.wt hS1.2.2.1 hlo (by omega)
  rw [q9] at hS1
  obtain ⟨⟨b2, c1, c2⟩, cq⟩ := hS1.2.2.2 k0 (by omega) (by omega)
  obtain ⟨kx1, f1, f2, f3, bv, f4, f5⟩ := fld G1 hw1
  refine wk_less (r' := 1) (by show _ ≤ e + 1 - lw (S.2 34) e - 0 - (k0 + 1 - lw (S.2 34) k0); omega) ?_
  show wk_V q.1.1 mX20_clocked _ 14 [(0, vR (some (X e)))] [vR (hp_r G1 (X k0) 1)] G1 _
  rw [c1]
  have fin : jc S C1 e (kls S e) = .inr (S.2 33 e) → wk_V q.1.1 mX20_clocked (d, e + 1 - lw (S.2 34) e, cdP q S X C0 e G9, ckX q S X C0 e G9, hp_cs G9, hp_ss G9) 46 [(0, vR (some (X e)))] [] G1 1 := fun hj => by
    refine blX20_clocked_46 (Nat.le_refl 1) (fun t ht hAt => ?_)
    have f6 : cf (fun y => y = t) G1 (hp_nw G1 t 5 0) := (cf.rf (own := fun y => y = t)).nw ht
    have kxe : X e ≠ t := fun u => by rw [u, ht] at kx1; cases kx1
    have kvt : qV q (pr_a S + vv) ≠ t := fun u => by rw [u, ht] at f3; cases f3
    have kbt : bv ≠ t := fun u => by have := f5.kd hw1.1.2; rw [u, ht] at this; cases this
    have er : ∀ y k, y ≠ t → hp_r (hp_nw G1 t 5 0) y k = hp_r G1 y k := fun y k hy => by rw [hp_r_nw, if_neg hy]
    have ek : ∀ y, y ≠ t → hp_kd (hp_nw G1 t 5 0) y = hp_kd G1 y := fun y hy => by rw [hp_kd_nw, if_neg hy]
    refine blX20_clocked_49 (by rw [ek _ kxe]; exact kx1) rfl (by
      rw [er _ _ kxe, f1, show hp_i (hp_nw G1 t 5 0) (X e) 6 = nI ss by rw [hp_i_nw, if_neg kxe]; exact f2]
      exact X8_init_C (d := 1) (b := bv) (by rw [hp_kd_nw, if_pos rfl]) hAt (by
        have : ss = 0 ∨ ss = 1 := by omega
        rcases this with u | u <;> rw [u]
        · exact Or.inl rfl
        · exact Or.inr rfl) (by rw [ek _ kvt]; exact f3) (by rw [er _ _ kvt]; exact f4) (by rw [ek _ kbt]; exact f5.kd hw1.1.2) kbt (Nat.le_refl 1)) (by show 1 + 1 ≤ d; omega) (Nat.zero_le _) ?_ (fun _ _ _ u => absurd u id)
    rintro v G3 ⟨rfl, rfl⟩
    generalize hp_i (hp_nw G1 t 5 0) bv 2 + 1 = z
    have f7 : cf (fun y => y = t) G1 (hp_sI (hp_sI (hp_sR (hp_nw G1 t 5 0) t 0 (some (qV q (pr_a S + vv)))) t 1 (nI ss)) t 2 z) := ((f6.sR (Or.inl rfl)).sI (Or.inl rfl)).sI (Or.inl rfl)
    have f8 : tf X e e G1 (hp_sI (hp_sI (hp_sR (hp_nw G1 t 5 0) t 0 (some (qV q (pr_a S + vv)))) t 1 (nI ss)) t 2 z) := tf.rf.new ht f7
    have hS2 : ckS q S X (lw (S.2 34) e) C0 G9 e C1 (hp_sI (hp_sI (hp_sR (hp_nw G1 t 5 0) t 0 (some (qV q (pr_a S + vv)))) t 1 (nI ss)) t 2 z) := ⟨hS1.1, hS1.2.1, hS1.2.2.1.tr f8 (by omega) (Nat.le_refl _), fun x u1 u2 => ⟨(hS1.2.2.2 x u1 u2).1.wt hw1 ⟨by omega, by omega⟩ f8 (by omega) (by omega) (Or.inl u2), (hS1.2.2.2 x u1 u2).2⟩⟩
    refine blX20_clocked_61 (hS2.end rfl hj (Or.inr (Or.inr ⟨vv, ss, v1, by omega, v4, ?_, ?_, ?_⟩)))
    · show hp_kd (hp_nw G1 t 5 0) t = 5
      rw [hp_kd_nw, if_pos rfl]
    · rw [hp_r_sI, hp_r_sI, hp_r_sR, if_pos rfl, if_pos rfl]
    · rw [hp_i_sI, if_pos rfl, if_neg (by decide), hp_i_sI, if_pos rfl, if_pos rfl]
  have nv : jc_v S vv ≠ -2 := by
    rcases jq_v hJ.1 v2 with u | u | ⟨w, w1, w2, -⟩
    · exfalso
      obtain ⟨-, -, -, -, -, -, -, -, ck⟩ := hJ.1.N
      unfold jc_v at u
      rcases ck (pr_a S + vv) (Nat.le_add_right _ _) v2 with w | ⟨w, w1, w2, -⟩
      · rw [w] at u; exact absurd u (by decide)
      · rw [w2] at u; exact (nI_n2 w1).1 u
    · rw [u]; decide
    · rw [w2]; exact (nI_n2 w1).1
  have a2 := c2.any hw1.1.2
  refine blX20_clocked_14 (fun u => fin ?_) (fun u => ?_)
  · have w := a2.1 u
    rw [hjc, w]
    rfl
  · have w : C1 k0 ≠ -2 := fun w => u (a2.2 w)
    refine blX20_clocked_22 kx1 f1 f3 (by rw [f4]; exact X1_alike_C (d := 0) hw1.1.2 c2 f5 w nv (hw1.vinj hJ.1 cq (jq_v hJ.1 v2))) (by show 0 + 1 ≤ d; omega) (Nat.zero_le _) ?_ (fun _ _ _ u => absurd u id)
    rintro v G8 ⟨rfl, rfl⟩
    by_cases ec : C1 k0 = jc_v S vv
    · rw [if_pos ec]
      refine blX20_clocked_33 (fun _ => fin ?_) (fun v => absurd v (by decide))
      rw [hjc]
      have : jc_two (C1 k0) (jc_v S vv) = .inr (C1 k0) := by unfold jc_two; rw [if_neg w, if_pos (Or.inr ec)]
      rw [this]
    · rw [if_neg ec]
      refine blX20_clocked_33 (fun v => absurd rfl v) (fun _ => ?_)
      obtain ⟨L2, c2', r32, r42, hal2⟩ := hw1.kids hpw hh h1 h2 h3
      have kB : hp_kd G8 q.1.2.2.2.1 = 3 := hw1.1.1.2.1.1
      refine blX20_clocked_36 kx1 (by rw [r42]; exact X1_wrong_C (d := 0) kB hw1.1.1.2.1.2) (by show 0 + 1 ≤ d; omega) (Nat.zero_le _) ?_ (fun _ _ _ u => absurd u id)
      rintro v G7 ⟨rfl, rfl⟩
      refine blX20_clocked_45 rfl (by show hp_kd G8 _ ≠ 0; rw [kB]; decide) (by show hp_kd G8 _ < 28; rw [kB]; decide) (wk_out0 rfl (hS1.thr hw1 hpw hh hlo h2 (Nat.le_refl _) rfl (fun C' hC' => ?_)))
      rw [hjc, hC' k0 (by omega)]
      have : jc_two (C1 k0) (jc_v S vv) = .inl 6 := by unfold jc_two; rw [if_neg w, if_neg (by rintro (v | v); exact nv v; exact ec v)]
      rw [this]
theorem X17_clocked_C {e d D : Nat} (hw0 : tw q lo hi S X G) (hpw : pw S lo hi) (hh : hi ≤ 5000) (hJ : pj_V n S) (h1 : lo ≤ e) (h2 : e < hi) (hk : S.2 32 e = 25) (hD : D + 1 ≤ d) (hd : 3 ≤ d) (ih : ckIH q S X lo hi D (kls S e)) : wk_C q.1.1 mX17_clocked d (e + 1 - lw (S.2 34) e) [vR (some (X e))] G (cdP q S X C0 e G) (ckX q S X C0 e G) := by
  obtain ⟨hlo, y0⟩ := hpw e h1 h2
  obtain ⟨y1, y2, y3⟩ := y0.kl (by omega)
  have hv6 := hJ.1.N.2.2.2.1
  have h3 : 3 ≤ S.2 32 e := by rw [hk]; decide
  obtain ⟨k0, e3⟩ := ls_1 (pw_len_25 hk y3)
  rw [e3] at y2
  obtain ⟨q01, q02, q03, q9⟩ := y2
  have q9 : k0 + 1 = e := q9
  have hS0 : ckS q S X (lw (S.2 34) e) C0 G (lw (S.2 34) e) C0 G := ckS.z
  have hjc : ∀ C', jc S C' e (kls S e) = if C' k0 < 0 then .inl 6 else .inr (jc_v S ((C' k0).toNatClampNeg / 2)) := fun C' => by
    unfold jc
    rw [if_neg (by rw [hk]; decide), if_neg (by rw [hk]; decide), if_pos hk, e3]
    rfl
  obtain ⟨L0, c0, r30, r40, hal0⟩ := hw0.kids hpw hh h1 h2 h3
  rw [e3] at hal0
  refine wk_C_of (by decide) rfl (Nat.le_of_ble_eq_true rfl) ?_
  refine blX17_clocked_0 (hw0.kd25 h1 h2 hk) r30 hal0.1.1 (J5_get_C (d := 2) (i := 0) hal0 (by show 0 < 1; decide) (Nat.le_refl 2)) (by show 2 + 1 ≤ d; omega) (Nat.zero_le _) ?_ (fun _ _ _ u => absurd u id)
  rintro v G9 ⟨rfl, rfl⟩
  have kk0 := hw0.k (e := k0) (by omega) (by omega)
  refine vkX17_clocked_8 (hcE kk0) rfl kk0 (ih k0 (by rw [e3]; simp) C0 _ hw0) (by show D + 1 ≤ d; omega) (by show k0 + 1 - lw (S.2 34) k0 ≤ e + 1 - lw (S.2 34) e - 0; omega) ?_ (fun E a G' u => wk_out0 rfl (by have := hS0.err q01 (by omega) (by omega) u; exact this))
  rintro v G1 hP0
  obtain ⟨C1, rfl, hS1, hC1⟩ := hS0.step hw0 hpw hh hlo q01 (by omega) (by omega) hP0
  have hw1 := hw0.wt hS1.2.2.1 hlo (by omega)
  rw [q9] at hS1
  obtain ⟨⟨b2, c1, c2⟩, cq⟩ := hS1.2.2.2 k0 (by omega) (by omega)
  refine wk_less (r' := 0) (Nat.zero_le _) ?_
  show wk_V q.1.1 mX17_clocked _ 14 [(0, vR (some (X e)))] [vR (hp_r G1 (X k0) 1)] G1 _
  rw [c1]
  have a2 := c2.any hw1.1.2
  have a3 := c2.base hw1.1.2
  have bad : C1 k0 < 0 → wk_V q.1.1 mX17_clocked (d, e + 1 - lw (S.2 34) e, cdP q S X C0 e G9, ckX q S X C0 e G9, hp_cs G9, hp_ss G9) 29 [(0, vR (some (X e)))] [] G1 0 := fun hn => by
    obtain ⟨L2, c2', r32, r42, hal2⟩ := hw1.kids hpw hh h1 h2 h3
    have kB : hp_kd G1 q.1.2.2.2.1 = 3 := hw1.1.1.2.1.1
    refine blX17_clocked_29 (hw1.kd25 h1 h2 hk) (by rw [r42]; exact X1_wrong_C (d := 0) kB hw1.1.1.2.1.2) (by show 0 + 1 ≤ d; omega) (Nat.zero_le _) ?_ (fun _ _ _ u => absurd u id)
    rintro v G7 ⟨rfl, rfl⟩
    refine blX17_clocked_38 rfl (by show hp_kd G1 _ ≠ 0; rw [kB]; decide) (by show hp_kd G1 _ < 28; rw [kB]; decide) (wk_out0 rfl (hS1.thr hw1 hpw hh hlo h2 (Nat.le_refl _) rfl (fun C' hC' => ?_)))
    rw [hjc, hC' k0 (by omega), if_pos hn]
  refine blX17_clocked_14 (fun u => bad ?_) (fun u => ?_)
  · rw [a2.1 u]; decide
  · refine blX17_clocked_22 (fun u2 => ?_) (fun u2 => bad (by rw [a3.1 u2]; decide))
    rcases c2 with ⟨w, -⟩ | ⟨w, -⟩ | ⟨k, s, k1, k2, k3, k4, k5, k6⟩
    · exact absurd (a2.2 w) u
    · exact absurd (a3.2 w) u2
    · have hkv : pr_a S + k < pr_v S := by
        rcases cq with w | w | ⟨w, w1, w2, w3⟩
        · exact absurd (a2.2 w) u
        · exact absurd (a3.2 w) u2
        · rw [k3] at w2
          have := (nI_eq (by omega) (by omega)).1 w2
          omega
      obtain ⟨F, hF⟩ := hw1.2.2.1 (pr_a S + k) (Nat.le_add_right _ _) hkv
      obtain ⟨-, -, -, -, -, bb, b1, b2'⟩ := id hF
      refine blX17_clocked_39 rfl k4 k5 hF.1.1 ?_
      rw [b1]
      refine hS1.end rfl (t := S.2 22 (pr_a S + k)) ?_ b2'.bc
      rw [hjc, k3, if_neg (nI_pos (by omega)), nI_clamp (by omega), show (2 * k + s) / 2 = k by omega]
      rfl
/-- clock, from clocked of its class -/
theorem clock_of {e d D : Nat} (hw : tw q lo hi S X G) (hpw : pw S lo hi) (hh : hi ≤ 5000) (hJ : pj_V n S) (h1 : lo ≤ e) (h2 : e < hi) (hC : wk_C q.1.1 (vt_clocked (hp_kd G (X e))) D (e + 1 - lw (S.2 34) e) [vR (some (X e))] G (cdP q S X C e G) (ckX q S X C e G)) (hd : D + 1 ≤ d) : wk_C q.1.1 mX11_clock d (e + 1 - lw (S.2 34) e) [vR (some (X e))] G (ckP q S X C e G) (ckX q S X C e G) := by
  have hk := hw.k h1 h2
  have hA := (hw.2.1 e h1 h2).1.1.2
  have hl := (hpw e h1 h2).1
  obtain ⟨y1, y2, y3⟩ := (hpw e h1 h2).2.kl (by omega)
  have hle : lw (S.2 34) e ≤ e := (pw_k_mem _ _ y2).1
  refine wk_C_of (by decide) rfl (Nat.le_of_ble_eq_true rfl) ?_
  refine vkX11_clock_0 hk hC hd (Nat.le_refl _) ?_ (fun E a G' u => wk_out0 rfl u)
  rintro v G1 ⟨C', t, bb, p1, p2, rfl, p3, p4, p5⟩
  have hk1 : 13 ≤ hp_kd G1 (X e) ∧ hp_kd G1 (X e) ≤ 21 := by rw [p4.1.kd (by omega)]; exact hk
  have hw1 := hw.wt p4 hl (by omega)
  have hw4 := (p4.mono (Nat.le_refl _) (by omega : e ≤ e + 1)).wr (k := 1) (v := some bb) hle (Nat.lt_succ_self e) (by decide)
  have f1 : tf X e (e + 1) G1 (hp_sR G1 (X e) 1 (some bb)) := tf.rf.wr (Nat.le_refl _) (Nat.lt_succ_self e) (by decide)
  have tq : jq S t := jc_q hJ.1 y3 (fun k hk => by
    have := (pw_k_mem _ _ y2).2 k hk
    exact (p5 k this.1 this.2).2) p2
  have e1 : hp_r (hp_sR G1 (X e) 1 (some bb)) (X e) 1 = some bb := by rw [hp_r_sR, if_pos rfl, if_pos rfl]
  refine blX11_clock_5 rfl hk1 hA hk1 ⟨jg_up C' e t, ?_, rfl, hw4, fun x u1 u2 => ?_⟩
  · rw [show e + 1 - lw (S.2 34) e = (e - lw (S.2 34) e) + 1 by omega, jg_cl_go p1, show lw (S.2 34) e + (e - lw (S.2 34) e) = e by omega, jg_cl_1, p2]
  · by_cases w : x = e
    · have eu : jg_up C' e t x = t := by unfold jg_up; rw [if_pos w]
      rw [eu, w]
      exact ⟨⟨bb, e1, p3.fr f1.1 (by rintro y ⟨x, w1, w2, rfl⟩; have := hw1.k (e := x) (by omega) (by omega); omega)⟩, tq⟩
    · have eu : jg_up C' e t x = C' x := by unfold jg_up; rw [if_neg w]
      rw [eu]
      obtain ⟨g1, g2⟩ := p5 x u1 (by omega)
      exact ⟨g1.wt hw1 ⟨by omega, by omega⟩ f1 h1 (by omega) (Or.inl (by omega)), g2⟩
theorem X11_clock_C (hpw : pw S lo hi) (hh : hi ≤ 5000) (hJ : pj_V n S) : ∀ m e d C G, xh S e < m → lo ≤ e → e < hi → tw q lo hi S X G → 2 * xh S e + 5 ≤ d → wk_C q.1.1 mX11_clock d (e + 1 - lw (S.2 34) e) [vR (some (X e))] G (ckP q S X C e G) (ckX q S X C e G) := by
  intro m
  induction m with
  | zero => intro e d A G hm; omega
  | succ m ih =>
    intro e d C G hm h1 h2 hw hd
    obtain ⟨⟨g1, g2⟩, g3⟩ := hw.hts hpw hh h1 h2
    have hih : ckIH q S X lo hi (2 * xh S e + 3) (kls S e) := fun k hk C G hw => by
      obtain ⟨u1, u2, u3⟩ := g3 k hk
      exact ih k _ C G (by omega) u1 (by omega) hw (by omega)
    have ks := (hpw e h1 h2).2
    have y3 := (ks.kl (by omega)).2.2
    refine clock_of (D := 2 * xh S e + 4) hw hpw hh hJ h1 h2 ?_ hd
    have kd := (hw.2.1 e h1 h2).1.1.1
    have tog : ∀ (h3 : 3 ≤ S.2 32 e) (hk : S.2 32 e ≠ 25 ∧ S.2 32 e ≠ 26), wk_C q.1.1 mX12_clocked (2 * xh S e + 4) (e + 1 - lw (S.2 34) e) [vR (some (X e))] G (cdP q S X C e G) (ckX q S X C e G) := fun h3 hk => X12_clocked_C hw hpw hh hJ h1 h2 h3 hk (by omega) (by omega) hih
    have ne2 : ∀ x : Int32, S.2 32 e = x → x ≠ 25 ∧ x ≠ 26 → S.2 32 e ≠ 25 ∧ S.2 32 e ≠ 26 := fun x u v => by rw [u]; exact v
    rcases y3 with ⟨s, -⟩ | ⟨s, -⟩ | ⟨s, -⟩ | ⟨s, -⟩ | ⟨s, -⟩ | ⟨s, s2, -⟩ | ⟨s, s2, -⟩ | ⟨s, -⟩
    · rw [show hp_kd G (X e) = 13 by rw [kd, s]; rfl, vt_clocked_13]
      exact X18_clocked_C hw hpw hh h1 h2 (Or.inl s)
    · rw [show hp_kd G (X e) = 13 by rw [kd, s]; rfl, vt_clocked_13]
      exact X18_clocked_C hw hpw hh h1 h2 (Or.inr s)
    · rw [show hp_kd G (X e) = 14 by rw [kd, s]; rfl, vt_clocked_14]
      exact X19_clocked_C hw hpw hh hJ h1 h2 s
    · rw [hw.kd3 h1 h2 s, vt_clocked_21]
      exact tog (by rw [s]; decide) (by rw [s]; decide)
    · rw [hw.kd4 h1 h2 s, vt_clocked_16]
      exact tog (by rw [s]; decide) (by rw [s]; decide)
    · have n25 : S.2 32 e ≠ 25 ∧ S.2 32 e ≠ 26 := ⟨fun u => by rw [u] at s2; exact absurd s2 (by decide), fun u => by rw [u] at s2; exact absurd s2 (by decide)⟩
      have h3 : 3 ≤ S.2 32 e := Int32.le_trans (by decide) s
      rcases Classical.em (S.2 32 e = 5 ∨ S.2 32 e = 6) with u | u
      · rw [hw.kd56 h1 h2 u, vt_clocked_17]
        exact tog h3 n25
      · have h7 : 7 ≤ S.2 32 e ∧ S.2 32 e ≤ 23 := by
          refine ⟨?_, Int32.le_trans s2 (by decide)⟩
          rcases lk_range _ ⟨s, s2⟩ with v | v | v | v | v | v | v | v | v | v | v | v | v | v | v | v | v <;> first | (rw [v]; decide) | exact absurd (Or.inl v) u | exact absurd (Or.inr v) u
        rw [hw.kdop h1 h2 h7, vt_clocked_15]
        exact tog h3 n25
    · rcases lk_range2 _ ⟨s, Int32.le_trans s2 (by decide)⟩ with v | v | v | v | v
      · have h7 : 7 ≤ S.2 32 e ∧ S.2 32 e ≤ 23 := by rw [v]; decide
        rw [hw.kdop h1 h2 h7, vt_clocked_15]
        exact tog (by rw [v]; decide) (by rw [v]; decide)
      · have h7 : 7 ≤ S.2 32 e ∧ S.2 32 e ≤ 23 := by rw [v]; decide
        rw [hw.kdop h1 h2 h7, vt_clocked_15]
        exact tog (by rw [v]; decide) (by rw [v]; decide)
      · rw [hw.kd24 h1 h2 v, vt_clocked_18]
        exact tog (by rw [v]; decide) (by rw [v]; decide)
      · rw [hw.kd25 h1 h2 v, vt_clocked_20]
        exact X17_clocked_C hw hpw hh hJ h1 h2 v (by omega) (by omega) hih
      · rw [v] at s2; exact absurd s2 (by decide)
    · rw [hw.kd26 h1 h2 s, vt_clocked_19]
      exact X20_clocked_C hw hpw hh hJ h1 h2 s (by omega) (by omega) hih
end
