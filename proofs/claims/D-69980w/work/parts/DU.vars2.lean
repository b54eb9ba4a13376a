/-! THE COMPONENT's PARSER: a node's other variables -/
set_option maxRecDepth 100000
theorem res_nn {T : Nat → Int32} {n c : Nat} {tx : String} (ht : tx ∈ lx_words) (h : lx_isW T n c tx) : ¬ lx_name T n c := fun hn => hn.2 (List.any_eq_true.2 ⟨tx, ht, decide_eq_true h⟩)
theorem pg_group_xn {T : Nat → Int32} {n f c : Nat} {b : Bool} {S : MS} (h : ¬ lx_name T n c) : pg_group T n (f + 1) b c S = some (.inl (1, c)) := by
  unfold pg_group pg_names
  rw [if_pos h]
  rfl
section
variable {q : PZ} {S S' : MS} {X : Nat → Nat} {G G' G00 : GH} {c c' t L Lv hv cv Le Lc Lm Lr i o : Nat} {vk vk' : (Nat → Nat) × (Nat → Int32)} {nml : List Nat} {A D B cs ss hN : Nat} {P : Option WV → GH → Prop} {r : PE}
theorem hdF.gi (h : hdF q vk S G i o) (hi : hp_i G' (qn q) = hp_i G (qn q)) : hdF q vk S G' i o := by
  unfold hdF
  rw [hi]
  exact h
theorem hdF.grp (h : hdF q vk S G i o) (hs : pg_same (pr_v S) S S') (hi : hp_i G' (qn q) = hp_i G (qn q)) (h1 : ∀ j, pr_v S ≤ j → j < pr_v S' → vk'.2 j = 2) (h2 : ∀ j, j < pr_v S → vk'.2 j = vk.2 j ∧ vk'.1 j = vk.1 j) (hv : pr_v S ≤ pr_v S') : hdF q vk' S' G' i o := by
  obtain ⟨⟨a1, a2, a3⟩, ⟨b1, b2⟩, b3, b4, b5, b6⟩ := h
  refine ⟨⟨a1, a2, by rw [hs.a]; omega⟩, ⟨by rw [hs.N, hs.2.1 13 (by decide)]; exact b1, by rw [hs.N, hs.2.1 14 (by decide)]; exact b2⟩, by rw [hi]; exact b3, fun v u1 u2 => ?_, fun v u1 u2 => ?_, fun v u1 u2 => ?_⟩
  · rw [hs.a] at u1 u2; rw [(h2 v (by omega)).1]; exact b4 v u1 u2
  · rw [hs.a] at u1 u2; rw [(h2 v (by omega)).1]; exact b5 v u1 u2
  · rw [hs.a] at u1
    rcases Nat.lt_or_ge v (pr_v S) with u | u
    · rw [(h2 v u).1]; exact b6 v u1 u
    · exact h1 v u u2
/-- a group of local variables -/
theorem X3_node_grp {f r2 : Nat} {r1 : PE} {M : Nat} (hM : ∀ m, m ≤ 99 → pr_a S + m ≤ rz_n q.1 → m ≤ M) (hcmp : cmp_o q.1.1) (hD : 31 ≤ D) (hsn : sn G00) (hhN : hp_r G00 q.1.2.1 9 = some hN) (hhN2 : hp_kd G00 hN ≠ 0) (h0 : hdI q vk c S G00 G Lv hv cv Le Lc Lm Lr nml) (hF : hdF q vk S G i o) (h : pg_group (rz_T q.1) (rz_n q.1) f true c S = some r1) (hx : ∀ k, r1 = .inl k → r = .inl k)
    (K : ∀ c1 S1 vk1 G1 cv1 r5, r1 = .inr (0, c1, S1) → hdI q vk1 c1 S1 G00 G1 Lv hv cv1 Le Lc Lm Lr nml → hdF q vk1 S1 G1 i o → pr_a S1 = pr_a S → pr_N S1 = pr_N S → c + 1 ≤ c1 → 20 * (rz_n q.1 - c1) + 40 + (wvn M - wvn (pr_v S1 - pr_a S1)) + A ≤ r5 → wk_V q.1.1 mX3_node (D, B, P, xq_X q G00 r, cs, ss) 215 [(0, vR (some q.1.2.1))] [] G1 r5)
    (hr2 : 20 * (rz_n q.1 - c) + 40 + (wvn M - wvn (pr_v S - pr_a S)) + A ≤ r2) : wk_V q.1.1 mX3_node (D, B, P, xq_X q G00 r, cs, ss) 210 [(0, vR (some q.1.2.1))] [] G r2 := by
  refine wk_less hr2 ?_
  obtain ⟨hp1, pn1⟩ := h0.pst (X := fun _ => 0)
  refine wk_have fun hA hB => ?_
  refine blX3_node_210 h0.1.1.1.1 (X3_group_C (D := 29) (q := qVK q vk) (kd := 2) (r := r1) (f := f) (M := M) hM hcmp (Nat.le_refl 29) hp1 rfl h0.2.2.2.1.1 h0.2.2.2.1.2.1 pn1 hsn h0.2.2.1 hhN hhN2 (Or.inr (Or.inr rfl)) h) (by show 29 + 1 ≤ D; omega) (by show 20 * (rz_n q.1 - c) + 40 + (wvn M - wvn (pr_v S - pr_a S)) ≤ _; omega) ?_ (fun E a G' u => wk_out0 rfl ?_)
  · rintro v G2 ⟨rfl, c2, S2, q2, cv2, e1, hO⟩
    have h' := h
    rw [e1] at h'
    have hT := h0.2.2.2.1.2.2
    obtain ⟨-, a2, a3, a4, a5⟩ := pg_group_ok h' h0.2.2.2.1.1 hT
    have ag := pg_group_gx h' h0.2.2.2.1.1 hT h0.2.2.2.1.2.1
    obtain ⟨vk2, rfl, hd2, hk2, ho2, i2, hcb2⟩ := h0.gO hO a2 ag (by rw [a4.T]; exact hT)
    have w99 : wvn (pr_v S2 - pr_a S2) ≤ wvn M := wvn_le (hM _ (by have := ag.1; omega) (by have := a4.a; have := a2.2.1; have := a2.2.2.1; have := a2.1.N.2.2.2.2.2.1; omega))
    have w12 : wvn (pr_v S - pr_a S) ≤ wvn (pr_v S2 - pr_a S2) := wvn_le (by have := a4.a; omega)
    have hc2 := hd2.1.2.1
    refine wk_bk hA hB hcb2 (r' := 20 * (rz_n q.1 - c2) + 40 + (wvn M - wvn (pr_v S2 - pr_a S2)) + A) (by omega) ?_
    exact K c2 S2 vk2 G2 cv2 _ e1 hd2 (hF.grp a4 i2 hk2 ho2 (by omega)) a4.a a4.N a3 (Nat.le_refl _)
  · obtain ⟨k, c', e, h2⟩ := u
    exact ⟨k, c', hx _ e, h2⟩
theorem X3_node_semi {M r2 c0 : Nat} {rh : PE} {F : Nat → MS → Option PE} (hD : 31 ≤ D) (h0 : hdI q vk c S G00 G Lv hv cv Le Lc Lm Lr nml) (hF : hdF q vk S G i o) (h : (if lx_kind (rz_T q.1) (rz_n q.1) c = 59 then F (lx_next (rz_T q.1) (rz_n q.1) c) S else pr_er 1 c) = some rh) (hx : ∀ k, rh = .inl k → r = .inl k)
    (K : ∀ G1 r5, F (lx_next (rz_T q.1) (rz_n q.1) c) S = some rh → hdI q vk (lx_next (rz_T q.1) (rz_n q.1) c) S G00 G1 Lv hv cv Le Lc Lm Lr nml → hdF q vk S G1 i o → c + 1 ≤ lx_next (rz_T q.1) (rz_n q.1) c → 20 * (rz_n q.1 - lx_next (rz_T q.1) (rz_n q.1) c) + 40 + (wvn M - wvn (pr_v S - pr_a S)) + A ≤ r5 → wk_V q.1.1 mX3_node (D, B, P, xq_X q G00 r, cs, ss) 222 [(0, vR (some q.1.2.1))] [] G1 r5)
    (hr2 : 20 * (rz_n q.1 - c) + 40 + (wvn M - wvn (pr_v S - pr_a S)) + A ≤ r2) : wk_V q.1.1 mX3_node (D, B, P, xq_X q G00 r, cs, ss) 215 [(0, vR (some q.1.2.1))] [] G r2 := by
  refine wk_less hr2 ?_
  refine blX3_node_215 h0.1.1.1.1 (X3_need_C (k := 59) (d := 9) h0.1 (by decide) (Nat.le_refl 9)) (by show 9 + 1 ≤ D; omega) (by omega) ?_ (fun E a G' u => wk_out0 rfl ⟨1, c, hx _ (by rw [if_neg u.1] at h; exact (Option.some.inj h).symm), u.2.of h0.2.2.2.2.1.1 h0.2.2.2.2.1.2 (fun _ _ u => u)⟩)
  rintro v G1 ⟨rfl, hq, t1, t2⟩
  rw [if_pos hq] at h
  obtain ⟨tk1, tk2⟩ := lx_tk (T := rz_T q.1) (n := rz_n q.1) (c := c) (by rw [hq]; decide)
  obtain ⟨hd1, i1⟩ := h0.scan t1 t2 (by omega)
  exact K G1 _ h hd1 (hF.gi i1) tk1 (by omega)
theorem X3_node_vars {f0 a N c0 : Nat} {rh : PE} {M : Nat} (hM : ∀ m, m ≤ 99 → a + m ≤ rz_n q.1 → m ≤ M) (hcmp : cmp_o q.1.1) (hD : 31 ≤ D) (hsn : sn G00) (hhN : hp_r G00 q.1.2.1 9 = some hN) (hhN2 : hp_kd G00 hN ≠ 0) (hx : ∀ k, rh = .inl k → r = .inl k) (hx2 : ∀ c S, rh = .inr (0, c, S) → ¬ lx_isW (rz_T q.1) (rz_n q.1) c "let" → r = .inl (1, c))
    (K : ∀ c S vk G cv r5, rh = .inr (0, c, S) → hdI q vk c S G00 G Lv hv cv Le Lc Lm Lr nml → hdF q vk S G i o → pr_a S = a → pr_N S = N → c0 ≤ c → 20 * (rz_n q.1 - c) + 40 + (wvn M - wvn (pr_v S - pr_a S)) + A ≤ r5 → wk_V q.1.1 mX3_node (D, B, P, xq_X q G00 r, cs, ss) 231 [(0, vR (some q.1.2.1))] [] G r5) :
    ∀ f c S vk G cv r2, pg_vars (rz_T q.1) (rz_n q.1) f0 f c S = some rh → hdI q vk c S G00 G Lv hv cv Le Lc Lm Lr nml → hdF q vk S G i o → pr_a S = a → pr_N S = N → c0 ≤ c → 20 * (rz_n q.1 - c) + 40 + (wvn M - wvn (pr_v S - pr_a S)) + A ≤ r2 → wk_V q.1.1 mX3_node (D, B, P, xq_X q G00 r, cs, ss) 222 [(0, vR (some q.1.2.1))] [] G r2 := by
  intro f
  induction f with
  | zero => intro c S vk G cv r2 h; cases h
  | succ f ih =>
    intro c S vk G cv r2 h h0 hF ha hN1 hc0 hr2
    unfold pg_vars at h
    refine wk_less hr2 ?_
    refine blX3_node_222 h0.1.1.1.1 (X3_is_C (tx := "let") (d := 2) h0.1 h0.2.1.1.1 (by simp [lx_words]) (Nat.le_refl 2)) (by show 2 + 1 ≤ D; omega) (Nat.zero_le _) ?_ (fun _ _ _ u => absurd u id)
    rintro v G2 ⟨rfl, rfl⟩
    refine blX3_node_228 (fun u => ?_) (fun u => ?_)
    · have hlt := lx_b0.1 u
      by_cases hnm : lx_name (rz_T q.1) (rz_n q.1) c
      · rw [if_pos hnm] at h
        obtain ⟨r1, h1, hx1, h⟩ := pr_b_some h
        refine X3_node_grp (A := A) (M := M) (fun m a b => hM m a (by rw [← ha]; exact b)) hcmp hD hsn hhN hhN2 h0 hF h1 (fun k e => hx k (hx1 k e)) (fun c1 S1 vk1 G1 cv1 r5 e1 hd1 hF1 ha1 hN2 hc1 hr5 => ?_) (Nat.le_refl _)
        have h := h _ _ _ e1
        refine X3_node_semi (A := A) (c0 := c0) (F := fun c S => pg_vars (rz_T q.1) (rz_n q.1) f0 f c S) hD hd1 hF1 h hx (fun G3 r6 h3 hd3 hF3 hc3 hr6 => ?_) hr5
        exact ih _ S1 vk1 G3 cv1 r6 h3 hd3 hF3 (by rw [ha1, ha]) (by rw [hN2, hN1]) (by omega) hr6
      · rw [if_neg hnm] at h
        have er := hx2 c S (Option.some.inj h).symm hlt
        refine X3_node_grp (A := A) (M := M) (r1 := .inl (1, c)) (f := 1) (fun m a b => hM m a (by rw [← ha]; exact b)) hcmp hD hsn hhN hhN2 h0 hF (pg_group_xn hnm) (fun k e => by rw [er]; exact e) (fun c1 S1 vk1 G1 cv1 r5 e1 => by cases e1) (Nat.le_refl _)
    · have hlt := lx_b1 u
      rw [if_neg (res_nn (by simp [lx_words]) hlt)] at h
      exact K c S vk _ cv _ (Option.some.inj h).symm h0 hF ha hN1 hc0 (Nat.le_refl _)
/-- from var on -/
theorem X3_node_vr {f r2 : Nat} {rh : PE} {M : Nat} (hM : ∀ m, m ≤ 99 → pr_a S + m ≤ rz_n q.1 → m ≤ M) (hcmp : cmp_o q.1.1) (hD : 31 ≤ D) (hsn : sn G00) (hhN : hp_r G00 q.1.2.1 9 = some hN) (hhN2 : hp_kd G00 hN ≠ 0) (hx : ∀ k, rh = .inl k → r = .inl k) (hx2 : ∀ c S, rh = .inr (0, c, S) → ¬ lx_isW (rz_T q.1) (rz_n q.1) c "let" → r = .inl (1, c)) (h0 : hdI q vk c S G00 G Lv hv cv Le Lc Lm Lr nml) (hF : hdF q vk S G i o) (h : nd_vr (rz_T q.1) (rz_n q.1) f c S = some rh)
    (K : ∀ c1 S1 vk1 G1 cv1 r5, rh = .inr (0, c1, S1) → hdI q vk1 c1 S1 G00 G1 Lv hv cv1 Le Lc Lm Lr nml → hdF q vk1 S1 G1 i o → pr_a S1 = pr_a S → pr_N S1 = pr_N S → c ≤ c1 → 20 * (rz_n q.1 - c1) + 30 + (wvn M - wvn (pr_v S1 - pr_a S1)) + A ≤ r5 → wk_V q.1.1 mX3_node (D, B, P, xq_X q G00 r, cs, ss) 231 [(0, vR (some q.1.2.1))] [] G1 r5)
    (hr2 : 20 * (rz_n q.1 - c) + 40 + (wvn M - wvn (pr_v S - pr_a S)) + A ≤ r2) : wk_V q.1.1 mX3_node (D, B, P, xq_X q G00 r, cs, ss) 201 [(0, vR (some q.1.2.1))] [] G r2 := by
  refine wk_less hr2 ?_
  unfold nd_vr at h
  refine wk_have fun hA hB => ?_
  refine blX3_node_201 h0.1.1.1.1 (X3_skip_2_C (tx := "var") (d := 8) h0.1 h0.2.1.1.1 (by simp [lx_words]) (Nat.le_refl 8)) (by show 8 + 1 ≤ D; omega) (by omega) ?_ (fun _ _ _ u => absurd u id)
  rintro v G1 (⟨hq, rfl, t1, t2⟩ | ⟨hq, rfl, rfl⟩)
  · rw [if_pos hq] at h
    obtain ⟨tk1, tk2⟩ := lx_tkw (T := rz_T q.1) (n := rz_n q.1) (c := c) hq
    obtain ⟨hd1, i1⟩ := h0.scan t1 t2 (by omega)
    obtain ⟨r1, h1, hx1, h⟩ := pr_b_some h
    refine blX3_node_207 (fun u => absurd u (by decide)) (fun _ => ?_)
    refine X3_node_grp (A := A) (M := M) hM hcmp hD hsn hhN hhN2 hd1 (hF.gi i1) h1 (fun k e => hx k (hx1 k e)) (fun c1 S1 vk1 G2 cv1 r5 e1 hd2 hF2 ha2 hN2 hc2 hr5 => ?_) (by omega)
    have h := h _ _ _ e1
    refine X3_node_semi (A := A) (c0 := c) (F := fun c S => pg_vars (rz_T q.1) (rz_n q.1) f f c S) hD hd2 hF2 h hx (fun G3 r6 h3 hd3 hF3 hc3 hr6 => ?_) hr5
    exact X3_node_vars (A := A) (c0 := c) (M := M) hM hcmp hD hsn hhN hhN2 hx hx2 (fun c S vk G cv r5 z1 z2 z3 z4 z5 z6 z7 => K c S vk G cv r5 z1 z2 z3 z4 z5 z6 (by omega)) f _ S1 vk1 G3 cv1 r6 h3 hd3 hF3 ha2 hN2 (by omega) hr6
  · rw [if_neg hq] at h
    refine blX3_node_207 (fun _ => ?_) (fun u => absurd rfl u)
    exact K c S vk _ cv _ (Option.some.inj h).symm h0 hF rfl rfl (Nat.le_refl _) (by omega)
end
