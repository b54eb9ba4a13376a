/-! THE COMPONENT's finish: check -/
set_option maxRecDepth 100000
theorem hp_instCall {G : GH} {x : Nat} (hk : 13 ≤ hp_kd G x ∧ hp_kd G x ≤ 21) : hp_inst G (some x) "StreamNodes$Call" (if hp_kd G x = 21 then 1 else 0) := by
  refine Or.inr ⟨x, rfl, by omega, by omega, ?_⟩
  have h : ∀ k, k < 21 → 13 ≤ k → (hp_C k, "StreamNodes$Call") ∈ hp_ncL := by decide +kernel
  by_cases u : hp_kd G x = 21
  · exact Or.inl ⟨if_pos u, by rw [u]; exact Or.inl rfl⟩
  · exact Or.inr ⟨if_neg u, h _ (by omega) hk.1⟩
section
variable {q : PZ} {S : MS} {X : Nat → Nat} {lo hi n p b l m : Nat} {G G0 G' : GH} {A C F : Nat → Int32}
theorem tw.sub {lo2 hi2 : Nat} (h : tw q lo hi S X G) (a : lo ≤ lo2) (b : hi2 ≤ hi) : tw q lo2 hi2 S X G := ⟨h.1, fun e u1 u2 => ⟨(h.2.1 e (by omega) (by omega)).1, fun j v1 v2 => (h.2.1 e (by omega) (by omega)).2.1 j (by omega) v2, (h.2.1 e (by omega) (by omega)).2.2⟩, h.2.2⟩
/-- the equation that is checked -/
def cqx (q : PZ) (S : MS) (X : Nat → Nat) (G : GH) (x b l m : Nat) : Prop := hp_kd G x = 7 ∧ hp_r G x 1 = some (X b) ∧ ∃ L c, hp_r G x 0 = some L ∧ al q.1.1 G L m c (fun i => some (qV q (pr_a S + jg_v S (l + i))))
theorem cqx.wt {x l2 h2 : Nat} (h : cqx q S X G x b l m) (hw : tw q lo hi S X G) (hf : tf X l2 h2 G G') (a1 : lo ≤ l2) (a2 : h2 ≤ hi) : cqx q S X G' x b l m := by
  obtain ⟨h1, h2', L, c, h3, h4⟩ := h
  have k0 : hp_kd G x ≠ 0 := by rw [h1]; decide
  have ho : ∀ y, (∃ e, l2 ≤ e ∧ e < h2 ∧ y = X e) → 13 ≤ hp_kd G y ∧ hp_kd G y ≤ 21 := by
    rintro y ⟨e, u1, u2, rfl⟩
    exact hw.k (by omega) (by omega)
  have nx : ¬ ∃ e, l2 ≤ e ∧ e < h2 ∧ x = X e := fun u => by have := ho _ u; omega
  exact ⟨hf.1.k h1 (by decide), by rw [hf.1.r k0 nx]; exact h2', L, c, by rw [hf.1.r k0 nx]; exact h3, h4.fr hf.1 (fun u => by have := ho _ u; have := h4.1.1; omega) (fun y _ hy u => by have := ho _ u; omega)⟩
/-- what check leaves -/
def chP (q : PZ) (S : MS) (X : Nat → Nat) (k p b l m : Nat) (many : Bool) (G : GH) (v : Option WV) (G' : GH) : Prop := v = none ∧ ∃ A C F, jg0 S k p b l m many = .inr (jg_st S k A C) ∧ tf X p (b + 1) G G' ∧ (∀ x, p ≤ x → x < b + 1 → clk q S G' X x (F x)) ∧ F b = (if C b = -2 then jc_v S (jg_v S l) else C b) ∧ stF S C F p (b + 1) ∧ ∀ j, j < p → C j = S.2 36 j
def chX (q : PZ) (S : MS) (X : Nat → Nat) (k p b l m : Nat) (many : Bool) (G : GH) (E : String) (a : Nat) (G' : GH) : Prop := ∃ kd, jg0 S k p b l m many = .inl kd ∧ wx q X p (b + 1) G kd E a G'
theorem X3_check_C {k x d : Nat} {many : Bool} (hw : tw q p (b + 1) S X G) (hpw : pw S p (b + 1)) (hb : b < 5000) (hm : 1 ≤ m ∧ m ≤ 5000) (hJ : pj_V n S) (hp : lw (S.2 34) b = p) (hpb : p ≤ b) (hQ : cqx q S X G x b l m) (hqM : qM q b = if many = true then some (x, m) else none) (hM0 : ∀ y, p ≤ y → y < b → qM q y = none) (hmany : many = true → S.2 32 b = 3) (hpl : pl_ok S l (l + m)) (hl5 : l + m ≤ 5000) (hd : 610 ≤ d) :
    wk_C q.1.1 mX3_check d (b + 1 - p) [vR (some q.1.2.1), vR (some x)] G (chP q S X k p b l m many G) (chX q S X k p b l m many G) := by
  have hv6 := hJ.1.N.2.2.2.1
  have hN60 := hJ.1.N.2.1
  have hwn : wnt q S p (b + 1) b (if many = true then m else 1) := fun y y1 y2 y3 => by
    by_cases u : y = b
    · rw [if_pos u, u, hqM]
      cases many
      · exact Or.inl ⟨rfl, rfl⟩
      · exact Or.inr ⟨x, m, rfl, rfl⟩
    · rw [if_neg u]
      exact Or.inl ⟨hM0 y y1 (by omega), rfl⟩
  have ho5 : (if many = true then m else 1) ≤ 5000 := by split <;> omega
  have hbb : b < b + 1 := Nat.lt_succ_self b
  obtain ⟨⟨hn1, hn2⟩, -⟩ := hw.hts hpw (by omega) hpb hbb
  -- the left sides
  have vl : ∀ i, i < m → pr_a S + jg_v S (l + i) < pr_v S := fun i hi => by
    obtain ⟨z, z1, z2, z3⟩ := hpl (l + i) (by omega) (by omega)
    unfold jg_v
    rw [z1, nI_clamp (by omega)]
    exact z3
  refine wk_C_of (by decide) rfl (Nat.le_of_ble_eq_true rfl) ?_
  have kb := hw.k hpb hbb
  refine vkX3_check_0 rfl hQ.1 hQ.2.1 kb (X11_type_C (n := n) (b := b) (outs := if many = true then m else 1) hpw (by omega) hJ hwn ho5 (xh S b + 1) b 605 (S.2 41) G (Nat.lt_succ_self _) hpb hbb hw (by omega)) (by show 605 + 1 ≤ d; omega) (Nat.zero_le _) ?_ (fun E a G' u => wk_out0 rfl ?_)
  rotate_left
  · obtain ⟨kd, u1, u2⟩ := u
    rw [hp] at u1 u2
    exact ⟨kd, by unfold jg0; rw [u1], u2⟩
  rintro v G1 ⟨A, a1, a2, rfl, a3, a4⟩
  rw [hp] at a1 a4
  have hw1 := hw.wt a4 (Nat.le_refl _) (Nat.le_refl _)
  have hQ1 := hQ.wt hw a4 (Nat.le_refl _) (Nat.le_refl _)
  have kb1 := hw1.k hpb hbb
  obtain ⟨q1, q2, L, c, q3, q4⟩ := id hQ1
  -- the left side's variables
  have var : ∀ G2, tw q p (b + 1) S X G2 → ∀ i, i < m → hp_kd G2 (qV q (pr_a S + jg_v S (l + i))) = 6 ∧ hp_r G2 (qV q (pr_a S + jg_v S (l + i))) 1 = ty q.1.1 (S.2 24 (pr_a S + jg_v S (l + i))) ∧ ∃ bb, hp_r G2 (qV q (pr_a S + jg_v S (l + i))) 4 = some bb ∧ bc q (pr_a S) G2 bb (jc_v S (jg_v S (l + i))) := fun G2 w2 i hi => by
    obtain ⟨Fq, hF⟩ := w2.2.2.1 _ (Nat.le_add_right _ _) (vl i hi)
    obtain ⟨-, -, -, -, -, bb, b1, b2⟩ := id hF
    exact ⟨hF.1.1, hF.2.2.1, bb, b1, b2.bc⟩
  have jqv : ∀ i, i < m → jq S (jc_v S (jg_v S (l + i))) ∧ jc_v S (jg_v S (l + i)) ≠ -2 := fun i hi => ⟨jq_v hJ.1 (vl i hi), jc_v_ne hJ.1 (vl i hi)⟩
  have hcE6 : ∀ G2 y, hp_kd G2 y = 6 → ∀ a, some y = some a → hp_kd G2 a ≠ 0 ∧ hp_kd G2 a < 28 ∧ hp_sub (hp_kd G2 a) "StreamNodes$Variable" := fun G2 y u a ha => by
    rw [← Option.some.inj ha, u]
    exact ⟨by decide, by decide, Or.inl rfl⟩
  have kB : ∀ G2, tw q p (b + 1) S X G2 → hp_kd G2 q.1.2.2.2.1 = 3 := fun G2 w2 => w2.1.1.2.1.1
  have inst : hp_inst G1 (hp_r G1 x 1) "StreamNodes$Call" (if hp_kd G1 (X b) = 21 then 1 else 0) := by rw [q2]; exact hp_instCall kb1
  -- clocks, from pc 152 on
  have clocks : ∀ G1, tw q p (b + 1) S X G1 → cqx q S X G1 x b l m → tf X p (b + 1) G G1 → jg_lt S (jg_g S A many b) l m 0 = true → ∀ on, hp_r G1 (qV q (pr_a S + jg_v S (l + 0))) 4 = some on → bc q (pr_a S) G1 on (jc_v S (jg_v S (l + 0))) →
      wk_V q.1.1 mX3_check (d, b + 1 - p, chP q S X k p b l m many G, chX q S X k p b l m many G, hp_cs G, hp_ss G) 152 [(0, vR (some q.1.2.1)), (1, vR (some x)), (4, vR (some on))] [] G1 (b + 1 - p) := by
    intro G1 w1 hQ1 f1 hlt on on1 on2
    obtain ⟨q1, q2, L, c, q3, q4⟩ := id hQ1
    refine vkX3_check_152 rfl q1 q2 (w1.k hpb hbb) (by have := X11_clock_C hpw (by omega) hJ (xh S b + 1) b 605 (S.2 36) G1 (Nat.lt_succ_self _) hpb hbb w1 (by omega); rw [hp] at this; exact this) (by show 605 + 1 ≤ d; omega) (Nat.le_refl _) ?_ (fun E a G' u => wk_out0 rfl ?_)
    rotate_left
    · obtain ⟨u1, u2⟩ := u
      rw [hp] at u1 u2
      refine ⟨6, ?_, u2.up f1 (Nat.le_refl _) (Nat.le_refl _)⟩
      unfold jg0
      rw [a1]
      show (if jg_lt S (jg_g S A many b) l m 0 = true then _ else _) = _
      rw [if_pos hlt, u1]
    rintro v G2 ⟨C, c1, rfl, c2, c3⟩
    rw [hp] at c1 c2 c3
    have w2 := w1.wt c2 (Nat.le_refl _) (Nat.le_refl _)
    have hQ2 := hQ1.wt w1 c2 (Nat.le_refl _) (Nat.le_refl _)
    have f2 := f1.tr c2 (Nat.le_refl _) (Nat.le_refl _)
    obtain ⟨⟨bb, bb1, bb2⟩, bq⟩ := c3 b hpb hbb
    have on2' : bc q (pr_a S) G2 on (jc_v S (jg_v S (l + 0))) := on2.fr c2.1 (by
      rintro y ⟨e, u1, u2, rfl⟩
      have := w1.k u1 u2
      omega)
    have any := bb2.any w2.1.2
    obtain ⟨p1, p2, L2, cc2, p3, p4⟩ := id hQ2
    refine blX3_check_159 ?_
    rw [bb1]
    -- the clock that the left sides are to have
    have hce : ∀ i, i < m → ∀ cc, cc = (if C b = -2 then jc_v S (jg_v S (l + 0)) else C b) ∨ (i = 0 ∧ cc = C b) → jc_two cc (jc_v S (jg_v S (l + i))) = if jc_v S (jg_v S (l + i)) = (if C b = -2 then jc_v S (jg_v S (l + 0)) else C b) then .inr (if C b = -2 then jc_v S (jg_v S (l + 0)) else C b) else .inl 6 := by
      intro i hi cc hcc
      have n1 := (jqv i hi).2
      have n0 := (jqv 0 (by omega)).2
      unfold jc_two
      by_cases u : C b = -2
      · rw [if_pos u] at hcc ⊢
        rcases hcc with h | ⟨rfl, h⟩
        · rw [h, if_neg n0]
          by_cases w : jc_v S (jg_v S (l + i)) = jc_v S (jg_v S (l + 0))
          · rw [if_pos w, if_pos (Or.inr w.symm)]
          · rw [if_neg w, if_neg (by rintro (v | v); exact n1 v; exact w v.symm)]
        · rw [h, if_pos u, if_pos rfl]
      · rw [if_neg u] at hcc ⊢
        have h : cc = C b := by rcases hcc with h | ⟨-, h⟩ <;> exact h
        rw [h, if_neg u]
        by_cases w : jc_v S (jg_v S (l + i)) = C b
        · rw [if_pos w, if_pos (Or.inr w.symm)]
        · rw [if_neg w, if_neg (by rintro (v | v); exact n1 v; exact w v.symm)]
    have bad : jg_lc S l m 0 (C b) = .inl 6 → wk_V q.1.1 mX3_check (d, b + 1 - p, chP q S X k p b l m many G, chX q S X k p b l m many G, hp_cs G, hp_ss G) 212 [(0, vR (some q.1.2.1))] [] G2 0 := fun hb9 => by
      have k3 := kB G2 w2
      refine blX3_check_212 w2.1.1.1.1 (by rw [w2.1.1.1.2.2.1]; exact X1_wrong_C (d := 0) k3 w2.1.1.2.1.2) (by show 0 + 1 ≤ d; omega) (Nat.zero_le _) ?_ (fun _ _ _ u => absurd u id)
      rintro v G9 ⟨rfl, rfl⟩
      refine blX3_check_221 rfl (by show hp_kd G2 _ ≠ 0; rw [k3]; decide) (by show hp_kd G2 _ < 28; rw [k3]; decide) (wk_out0 rfl ⟨6, ?_, by show hp_C (hp_kd G2 _) = _; rw [k3]; rfl, rfl, G2, f2, k3, rfl⟩)
      unfold jg0
      rw [a1]
      show (if jg_lt S (jg_g S A many b) l m 0 = true then _ else _) = _
      rw [if_pos hlt, c1]
      show (match jg_lc S l m 0 (C b) with | .inl kd => (.inl kd : Int32 ⊕ MS) | .inr _ => .inr (jg_st S k A C)) = _
      rw [hb9]
    have fin : ∀ cc, jg_lc S l m 0 (C b) = .inr cc → wk_V q.1.1 mX3_check (d, b + 1 - p, chP q S X k p b l m many G, chX q S X k p b l m many G, hp_cs G, hp_ss G) 228 [(1, vR (some x)), (4, vR (some on))] [] G2 0 := fun cc hcc => by
      obtain ⟨F, F1, F2⟩ := stF_ex (C := C) (co := jc_v S (jg_v S l)) (hpw.pt (by omega)) hpb
      have hfix := jg_cl_fix _ _ _ _ (fun x x1 x2 => (hpw x (by omega) (by omega)).2.kids (by omega)) c1
      refine vkX3_check_228 rfl p1 p2 (w2.k hpb hbb) (settle_C (n := n) (C := C) (F := F) hpw (by omega) hJ (fun e e1 e2 => hfix.2 e e1 (by omega)) (fun y y1 y2 => (c3 y y1 y2).2) F2 (xh S b + 1) b 605 G2 on (jc_v S (jg_v S l)) (Nat.lt_succ_self _) hpb hbb w2 ⟨fun y y1 y2 => (c3 y (by rw [hp] at y1; exact y1) y2).1, on2', F1⟩ (by omega)) (by show 605 + 1 ≤ d; omega) (Nat.zero_le _) ?_ (fun _ _ _ u => absurd u id)
      rintro v G3 ⟨rfl, s2, s3⟩
      rw [hp] at s2 s3
      refine blX3_check_237 ⟨rfl, A, C, F, ?_, f2.tr s2 (Nat.le_refl _) (Nat.le_refl _), s3, F1, F2, fun j hj => hfix.1 j (Or.inl hj)⟩
      unfold jg0
      rw [a1]
      show (if jg_lt S (jg_g S A many b) l m 0 = true then _ else _) = _
      rw [if_pos hlt, c1]
      show (match jg_lc S l m 0 (C b) with | .inl kd => (.inl kd : Int32 ⊕ MS) | .inr _ => .inr (jg_st S k A C)) = _
      rw [hcc]
    have loop : ∀ M i cc, i + M = m → (cc = (if C b = -2 then jc_v S (jg_v S (l + 0)) else C b) ∨ (i = 0 ∧ cc = C b)) → jg_lc S l m 0 (C b) = jg_lc S l M i cc → wk_V q.1.1 mX3_check (d, b + 1 - p, chP q S X k p b l m many G, chX q S X k p b l m many G, hp_cs G, hp_ss G) 164 [(0, vR (some q.1.2.1)), (1, vR (some x)), (4, vR (some on)), (5, vR (some bb)), (6, vI (nI i))] [] G2 0 := by
      intro M
      induction M with
      | zero =>
        intro i cc hi hcc hlc
        refine blX3_check_164 rfl p1 p3 p4.1.1 (J5_size_C (d := 0) p4) (by show 0 + 1 ≤ d; omega) (Nat.zero_le _) ?_ (fun _ _ _ u => absurd u id)
        rintro v G9 ⟨rfl, rfl⟩
        exact blX3_check_173 (fun _ => fin cc hlc) (fun u => absurd (nI_le (by omega) (by omega)) u)
      | succ M ihM =>
        intro i cc hi hcc hlc
        refine blX3_check_164 rfl p1 p3 p4.1.1 (J5_size_C (d := 0) p4) (by show 0 + 1 ≤ d; omega) (Nat.zero_le _) ?_ (fun _ _ _ u => absurd u id)
        rintro v G9 ⟨rfl, rfl⟩
        refine blX3_check_173 (fun u => absurd ((nI_leI (by omega) (by omega)).1 u) (by omega)) (fun _ => ?_)
        refine blX3_check_176 rfl p1 p3 p4.1.1 (J5_get_C (d := 2) (i := i) p4 (by omega) (Nat.le_refl 2)) (by show 2 + 1 ≤ d; omega) (Nat.zero_le _) ?_ (fun _ _ _ u => absurd u id)
        rintro v G9 ⟨rfl, rfl⟩
        obtain ⟨u1, u2, bi, u3, u4⟩ := var G9 w2 i (by omega)
        have hstep := hce i (by omega) cc hcc
        have next : ∀ (bz : Nat) (cz : Int32), bc q (pr_a S) G9 bz cz → cz = (if C b = -2 then jc_v S (jg_v S (l + 0)) else C b) → cz ≠ -2 → jq S cz → wk_V q.1.1 mX3_check (d, b + 1 - p, chP q S X k p b l m many G, chX q S X k p b l m many G, hp_cs G, hp_ss G) 206 [(0, vR (some q.1.2.1)), (1, vR (some x)), (4, vR (some on)), (5, vR (some bb)), (6, vI (nI i))] [vR (some bz), vR (some bi)] G9 0 := fun bz cz z1 z2 z3 z4 => by
          refine blX3_check_206 (X1_alike_C (d := 0) w2.1.2 u4 z1 (jqv i (by omega)).2 z3 (w2.vinj hJ.1 (jqv i (by omega)).1 z4)) (by show 0 + 1 ≤ d; omega) (Nat.zero_le _) ?_ (fun _ _ _ u => absurd u id)
          rintro v G8 ⟨rfl, rfl⟩
          by_cases w : jc_v S (jg_v S (l + i)) = cz
          · rw [if_pos w]
            refine blX3_check_209 (fun _ => blX3_check_222 ?_) (fun v => absurd v (by decide))
            rw [nI_1]
            refine ihM (i + 1) _ (by omega) (Or.inl rfl) ?_
            rw [hlc, jg_lc, hstep, if_pos (by rw [w]; exact z2)]
          · rw [if_neg w]
            refine blX3_check_209 (fun v => absurd rfl v) (fun _ => bad ?_)
            rw [hlc, jg_lc, hstep, if_neg (by rw [← z2]; exact w)]
        refine blX3_check_185 (hcE6 _ _ u1) rfl u1 (fun u => ?_) (fun u => ?_)
        · have nb : C b ≠ -2 := fun w => u (any.2 w)
          refine blX3_check_204 ?_
          rw [u3]
          exact next bb (C b) bb2 (by rw [if_neg nb]) nb bq
        · have nb : C b = -2 := any.1 u
          refine blX3_check_199 ?_
          rw [u3]
          exact next on _ on2' (by rw [if_pos nb]) (jqv 0 (by omega)).2 (jqv 0 (by omega)).1
    refine wk_less (r' := 0) (Nat.zero_le _) ?_
    exact loop m 0 (C b) (by omega) (Or.inr ⟨rfl, rfl⟩) rfl
  -- types of the left sides, from pc 37 on
  have types : ∀ tup : Int32, (tup = if many = true then 1 else 0) → wk_V q.1.1 mX3_check (d, b + 1 - p, chP q S X k p b l m many G, chX q S X k p b l m many G, hp_cs G, hp_ss G) 37 [(0, vR (some q.1.2.1)), (1, vR (some x)), (2, vR (ty q.1.1 (A b)))] [vI tup] G1 (b + 1 - p) := by
    intro tup htup
    refine blX3_check_37 rfl q1 q3 q4.1.1 (J5_get_C (d := 2) (i := 0) q4 (by omega) (Nat.le_refl 2)) (by show 2 + 1 ≤ d; omega) (Nat.zero_le _) ?_ (fun _ _ _ u => absurd u id)
    rintro v G9 ⟨rfl, rfl⟩
    obtain ⟨o1, o2, on, o3, o4⟩ := var G9 hw1 0 (by omega)
    refine blX3_check_46 (hcE6 _ _ o1) rfl o1 ?_
    rw [o3]
    have bad : jg_lt S (jg_g S A many b) l m 0 = false → wk_V q.1.1 mX3_check (d, b + 1 - p, chP q S X k p b l m many G, chX q S X k p b l m many G, hp_cs G, hp_ss G) 137 [(0, vR (some q.1.2.1))] [] G9 (b + 1 - p) := fun hb9 => by
      have k3 := kB G9 hw1
      refine blX3_check_137 hw1.1.1.1.1 (by rw [hw1.1.1.1.2.2.1]; exact X1_wrong_C (d := 0) k3 hw1.1.1.2.1.2) (by show 0 + 1 ≤ d; omega) (Nat.zero_le _) ?_ (fun _ _ _ u => absurd u id)
      rintro v G8 ⟨rfl, rfl⟩
      refine blX3_check_145 rfl (by show hp_kd G9 _ ≠ 0; rw [k3]; decide) (by show hp_kd G9 _ < 28; rw [k3]; decide) (wk_out0 rfl ⟨4, ?_, by show hp_C (hp_kd G9 _) = _; rw [k3]; rfl, rfl, G9, a4, k3, rfl⟩)
      unfold jg0
      rw [a1]
      show (if jg_lt S (jg_g S A many b) l m 0 = true then _ else _) = _
      rw [if_neg (by rw [hb9]; decide)]
    have loop : ∀ M i, i + M = m → jg_lt S (jg_g S A many b) l m 0 = jg_lt S (jg_g S A many b) l M i → wk_V q.1.1 mX3_check (d, b + 1 - p, chP q S X k p b l m many G, chX q S X k p b l m many G, hp_cs G, hp_ss G) 57 [(0, vR (some q.1.2.1)), (1, vR (some x)), (2, vR (ty q.1.1 (A b))), (3, vI tup), (4, vR (some on)), (5, vI (nI i))] [] G9 (b + 1 - p) := by
      intro M
      induction M with
      | zero =>
        intro i hi hlt
        refine blX3_check_57 rfl q1 q3 q4.1.1 (J5_size_C (d := 0) q4) (by show 0 + 1 ≤ d; omega) (Nat.zero_le _) ?_ (fun _ _ _ u => absurd u id)
        rintro v G8 ⟨rfl, rfl⟩
        refine blX3_check_66 (fun _ => ?_) (fun u => absurd (nI_le (by omega) (by omega)) u)
        exact clocks _ hw1 hQ1 a4 hlt on o3 o4
      | succ M ihM =>
        intro i hi hlt
        refine blX3_check_57 rfl q1 q3 q4.1.1 (J5_size_C (d := 0) q4) (by show 0 + 1 ≤ d; omega) (Nat.zero_le _) ?_ (fun _ _ _ u => absurd u id)
        rintro v G8 ⟨rfl, rfl⟩
        refine blX3_check_66 (fun u => absurd ((nI_leI (by omega) (by omega)).1 u) (by omega)) (fun _ => ?_)
        obtain ⟨u1, u2, bi, u3, u4⟩ := var G8 hw1 i (by omega)
        have h24v : S.2 24 (pr_a S + jg_v S (l + i)) = 0 ∨ S.2 24 (pr_a S + jg_v S (l + i)) = 1 := hJ.2.1 _ (vl i (by omega))
        have cmp : ∀ g : Int32, jg_g S A many b i = g → (g = 0 ∨ g = 1) → wk_V q.1.1 mX3_check (d, b + 1 - p, chP q S X k p b l m many G, chX q S X k p b l m many G, hp_cs G, hp_ss G) 115 [(0, vR (some q.1.2.1)), (1, vR (some x)), (2, vR (ty q.1.1 (A b))), (3, vI tup), (4, vR (some on)), (5, vI (nI i))] [vR (ty q.1.1 g)] G8 (b + 1 - p) := fun g hg hg01 => by
          refine blX3_check_115 rfl q1 q3 q4.1.1 (J5_get_C (d := 2) (i := i) q4 (by omega) (Nat.le_refl 2)) (by show 2 + 1 ≤ d; omega) (Nat.zero_le _) ?_ (fun _ _ _ u => absurd u id)
          rintro v G7 ⟨rfl, rfl⟩
          refine blX3_check_126 (hcE6 _ _ u1) rfl u1 (fun u => ?_) (fun u => bad ?_)
          · rw [u2] at u
            have w := (ty_01 hw1.1.2 h24v hg01).1 u
            refine blX3_check_146 ?_
            rw [nI_1]
            refine ihM (i + 1) (by omega) ?_
            rw [hlt, jg_lt, hg, w, decide_eq_true rfl, Bool.true_and]
          · rw [u2] at u
            have w : ¬ S.2 24 (pr_a S + jg_v S (l + i)) = g := fun w => u (by rw [w])
            rw [hlt, jg_lt, hg, decide_eq_false w, Bool.false_and]
        cases hmn : many with
        | false =>
          have t0 : tup = 0 := by rw [htup, hmn]; rfl
          refine blX3_check_69 (fun _ => blX3_check_114 ?_) (fun u => absurd t0 u)
          have := cmp (A b) (by unfold jg_g; rw [hmn]; rfl) a2
          rw [hmn] at this
          exact this
        | true =>
          have t1 : tup = 1 := by rw [htup, hmn]; rfl
          refine blX3_check_69 (fun u => by rw [t1] at u; exact absurd u (by decide)) (fun _ => ?_)
          have s3 := hmany hmn
          obtain ⟨y1, y2, y3⟩ := (hpw b hpb hbb).2.kl (by omega)
          obtain ⟨f, hf, e33⟩ : ∃ f, f < pr_N S ∧ S.2 33 b = nI f := by
            unfold pw_s at y3
            rw [s3] at y3
            rcases y3 with ⟨w, -⟩ | ⟨w, -⟩ | ⟨w, -⟩ | ⟨-, -, w⟩ | ⟨w, -⟩ | ⟨w, -⟩ | ⟨w, -⟩ | ⟨w, -⟩ <;> first | exact w | exact absurd w (by decide)
          obtain ⟨bb, ii, oo, f1, f2, f3, f4, f5⟩ := hJ.2.2 f hf
          have jf : (S.2 33 b).toNatClampNeg = f := by rw [e33, nI_clamp (by omega)]
          have j12 : (S.2 12 f).toNatClampNeg = bb := by rw [f1, nI_clamp (by omega)]
          have j13 : (S.2 13 f).toNatClampNeg = ii := by rw [f2, nI_clamp (by omega)]
          have j14 : (S.2 14 f).toNatClampNeg = oo := by rw [f3, nI_clamp (by omega)]
          have moo : m = oo := by
            obtain ⟨A1, t, ht⟩ := jg_ty_out (b := b) (outs := if many = true then m else 1) (b + 1 - p) (S.2 41) p hpb (by omega) a1
            unfold jt at ht
            rw [if_pos s3, jf, j13, j14] at ht
            by_cases g : (kls S b).length = ii ∧ (if many = true then m else 1) = oo
            · rw [← g.2, if_pos hmn]
            · rw [if_neg g] at ht; cases ht
          obtain ⟨⟨n1, n2, n3⟩, LV, cV, nV, VV, n4, n5, n6, n7⟩ := hw1.2.2.2 f hf
          have n6 : ii + oo ≤ nV := by unfold jg_n at n6; rw [j13, j14] at n6; exact n6
          have n7 : ∀ i, i < nV → hp_kd G8 (VV i) = 6 ∧ hp_r G8 (VV i) 1 = ty q.1.1 (S.2 24 (bb + i)) := fun i hi => by have := n7 i hi; unfold jg_n at this; rw [j12] at this; exact this
          have r5 : hp_r G8 (X b) 5 = some (qN q f) := by rw [((hw1.2.1 b hpb hbb).1.2.2.1.2.2.1 s3).1, jf]
          have k21 := hw1.kd3 hpb hbb s3
          obtain ⟨z1, z2⟩ := n7 (ii + i) (by omega)
          refine blX3_check_73 rfl q1 (fun a ha => by rw [q2] at ha; rw [← Option.some.inj ha, k21]; exact ⟨by decide, by decide, Or.inl rfl⟩) q2 k21 r5 n1 n4 n5.1.1 (by rw [n2, f2, nI_add]; exact J5_get_C (d := 2) (i := ii + i) n5 (by omega) (Nat.le_refl 2)) (by show 2 + 1 ≤ d; omega) (Nat.zero_le _) ?_ (fun _ _ _ u => absurd u id)
          rintro v G7 ⟨rfl, rfl⟩
          refine blX3_check_105 (hcE6 _ _ z1) rfl z1 ?_
          rw [z2]
          have := cmp (S.2 24 (bb + (ii + i))) (by unfold jg_g jg_n; rw [hmn, if_pos rfl, jf, j12, j13, Nat.add_assoc]) (hJ.2.1 _ (by omega))
          rw [hmn] at this
          exact this
    exact loop m 0 (by omega) rfl
  -- is it a call with many values
  refine blX3_check_7 rfl hQ1.1 inst (fun u => ?_) (fun u => ?_)
  · have k21 : hp_kd G1 (X b) ≠ 21 := fun w => by rw [if_pos w] at u; exact absurd u (by decide)
    have mf : ¬ many = true := fun w => k21 (hw1.kd3 hpb hbb (hmany w))
    exact blX3_check_36 (types 0 (by rw [if_neg mf]))
  · have k21 : hp_kd G1 (X b) = 21 := Decidable.byContradiction fun w => by rw [if_neg w] at u; exact absurd rfl u
    have s3 : S.2 32 b = 3 := by
      have : hp_kd G1 (X b) = xk (S.2 32 b) := (hw1.2.1 b hpb hbb).1.1.1
      rw [k21] at this
      refine Decidable.byContradiction fun w => ?_
      unfold xk at this
      rw [if_neg w] at this
      split at this
      · cases this
      split at this
      · cases this
      split at this
      · cases this
      split at this
      · cases this
      split at this
      · cases this
      split at this
      · cases this
      split at this
      · cases this
      cases this
    have x3 := ((hw1.2.1 b hpb hbb).1.2.2.1.2.2.1 s3).2
    have hc : ∀ a, hp_r G1 x 1 = some a → hp_kd G1 a ≠ 0 ∧ hp_kd G1 a < 28 ∧ hp_sub (hp_kd G1 a) "StreamNodes$Call" := fun a ha => by
      rw [q2] at ha
      rw [← Option.some.inj ha, k21]
      exact ⟨by decide, by decide, Or.inl rfl⟩
    rw [hqM] at x3
    refine blX3_check_18 rfl q1 hc q2 k21 (fun u => ?_) (fun u => ?_)
    · have mf : ¬ many = true := fun w => by
        rw [if_pos w] at x3
        rcases x3 with ⟨v, -⟩ | ⟨k', m', v1, -, v3⟩
        · cases v
        · rw [v3] at u
          exact u (congrArg (fun z : Nat × Nat => some z.1) (Option.some.inj v1)).symm
      exact blX3_check_36 (types 0 (by rw [if_neg mf]))
    · have mt : many = true := Decidable.byContradiction fun w => by
        rw [if_neg w] at x3
        rcases x3 with ⟨-, -, v⟩ | ⟨k', m', v1, -⟩
        · rw [v] at u; cases u
        · cases v1
      exact blX3_check_32 (types 1 (by rw [if_pos mt]))
end
