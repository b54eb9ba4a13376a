/-! THE COMPONENT's finish: types of Operation -/
set_option maxRecDepth 100000
/-- what an operation's parts are to be, what it is -/
def opG (op : Int32) : Int32 := if op ≤ 8 ∨ op = 15 then 0 else 1
def opT (op : Int32) : Int32 := if op ≤ 4 ∨ op = 15 then 0 else 1
theorem opG_01 (op : Int32) : opG op = 0 ∨ opG op = 1 := by unfold opG; split; exact Or.inl rfl; exact Or.inr rfl
theorem opT_01 (op : Int32) : opT op = 0 ∨ opT op = 1 := by unfold opT; split; exact Or.inl rfl; exact Or.inr rfl
section
variable {q : PZ} {S : MS} {X : Nat → Nat} {lo hi b outs n : Nat} {G G0 G' : GH} {A A0 : Nat → Int32}
theorem xo_same {s : Int32} (h : 7 ≤ s ∧ s ≤ 23) (hx : xo s = 9 ∨ xo s = 10) : s = 11 ∨ s = 12 := by
  rcases lk_op s h with e | e | e | e | e | e | e | e | e | e | e | e | e | e | e | e | e <;> rw [e] at hx <;> first | exact Or.inl e | exact Or.inr e | (rcases hx with u | u <;> exact absurd u (by decide))
theorem jt_same {e : Nat} {k0 k1 : Nat} {w : Nat} (hs : S.2 32 e = 11 ∨ S.2 32 e = 12) : jt S A e [k0, k1] w = jt_ok (decide (A k0 = A k1)) 1 := by
  unfold jt
  rcases hs with u | u <;> rw [u] <;> rfl
theorem jt_op {e : Nat} {ks : List Nat} {w : Nat} (hs : 7 ≤ S.2 32 e ∧ S.2 32 e ≤ 23) (h9 : ¬ (xo (S.2 32 e) = 9)) (h10 : ¬ (xo (S.2 32 e) = 10)) (hy : pw_s S (S.2 32 e) (S.2 33 e) ks.length) (hA : ∀ k ∈ ks, A k = 0 ∨ A k = 1) :
    ((∀ k ∈ ks, A k = opG (xo (S.2 32 e))) → jt S A e ks w = .inr (opT (xo (S.2 32 e)))) ∧ (¬ (∀ k ∈ ks, A k = opG (xo (S.2 32 e))) → jt S A e ks w = .inl 4) := by
  have two : S.2 32 e ≤ 21 → ∃ a c, ks = [a, c] := fun u => ls_2 (pw_len_2 ⟨Int32.le_trans (by decide) hs.1, u⟩ hy)
  have one : 22 ≤ S.2 32 e → ∃ a, ks = [a] := fun u => ls_1 (pw_len_1 ⟨u, Int32.le_trans hs.2 (by decide)⟩ hy)
  have h0 : ∀ s : Int32, 7 ≤ s → s ≤ 23 → S.2 32 e = s → ¬ xo s = 9 → ¬ xo s = 10 → ((∀ k ∈ ks, A k = opG (xo s)) → jt S A e ks w = .inr (opT (xo s))) ∧ (¬ (∀ k ∈ ks, A k = opG (xo s)) → jt S A e ks w = .inl 4) := by
    intro s h7 h23 es n9 n10
    rcases lk_op s ⟨h7, h23⟩ with u | u | u | u | u | u | u | u | u | u | u | u | u | u | u | u | u
    case inr.inr.inr.inr.inl => exact absurd (show xo s = 9 by rw [u]; rfl) n9
    case inr.inr.inr.inr.inr.inl => exact absurd (show xo s = 10 by rw [u]; rfl) n10
    case inr.inr.inr.inr.inr.inr.inr.inr.inr.inr.inr.inr.inr.inr.inr.inl | inr.inr.inr.inr.inr.inr.inr.inr.inr.inr.inr.inr.inr.inr.inr.inr =>
      obtain ⟨a, rfl⟩ := one (by rw [es, u]; decide)
      have ha := hA a (by simp)
      subst u
      unfold jt
      rw [es]
      constructor
      · intro g
        have ga := g a (by simp)
        simp only [List.getD_cons_zero, ga]
        rfl
      · intro g
        have ga : ¬ A a = opG (xo _) := fun w => g (fun k hk => by rw [List.mem_singleton.1 hk]; exact w)
        rcases ha with v | v
        · first
            | exact absurd (v.trans rfl) ga
            | (simp only [List.getD_cons_zero, v]; rfl)
        · first
            | exact absurd (v.trans rfl) ga
            | (simp only [List.getD_cons_zero, v]; rfl)
    all_goals
      obtain ⟨a, c, rfl⟩ := two (by rw [es, u]; decide)
      have ha := hA a (by simp)
      have hc := hA c (by simp)
      subst u
      unfold jt
      rw [es]
      constructor
      · intro g
        have ga := g a (by simp)
        have gc := g c (by simp)
        simp only [List.getD_cons_zero, List.getD_cons_succ, ga, gc]
        rfl
      · intro g
        have ga : ¬ (A a = opG (xo _) ∧ A c = opG (xo _)) := fun w => g (fun k hk => by
          rcases List.mem_cons.1 hk with e | hk
          · rw [e]; exact w.1
          · rw [List.mem_singleton.1 hk]; exact w.2)
        rcases ha with v | v <;> rcases hc with v2 | v2 <;> first
          | exact absurd ⟨v.trans rfl, v2.trans rfl⟩ ga
          | (simp only [List.getD_cons_zero, List.getD_cons_succ, v, v2]; rfl)
  exact h0 _ hs.1 hs.2 rfl h9 h10
/-- what Together.all leaves -/
def alP (q : PZ) (S : MS) (X : Nat → Nat) (b outs : Nat) (A0 : Nat → Int32) (g : Int32) (e : Nat) (G : GH) (v : Option WV) (G' : GH) : Prop := v = none ∧ ∃ A, tyS q S X b outs (lw (S.2 34) e) A0 G (kls S e) e A G' ∧ ∀ k ∈ kls S e, A k = g
def alX (q : PZ) (S : MS) (X : Nat → Nat) (b outs : Nat) (A0 : Nat → Int32) (g : Int32) (e : Nat) (G : GH) (E : String) (a : Nat) (G' : GH) : Prop := tyX q S X b outs A0 e G E a G' ∨ ∃ A G1, tyS q S X b outs (lw (S.2 34) e) A0 G (kls S e) e A G1 ∧ (¬ ∀ k ∈ kls S e, A k = g) ∧ tw q 0 0 S X G1 ∧ E = hp_C (hp_kd G1 q.1.2.2.2.1) ∧ a = q.1.2.2.2.1 ∧ G' = hp_sI G1 q.1.2.2.2.1 6 4
theorem tw.z (h : tw q lo hi S X G) : tw q 0 0 S X G := ⟨h.1, fun e a b => absurd b (by omega), h.2.2⟩
theorem X12_all_C {e d D : Nat} {g : Int32} (hg : g = 0 ∨ g = 1) (hw0 : tw q lo hi S X G) (hpw : pw S lo hi) (hh : hi ≤ 5000) (h1 : lo ≤ e) (h2 : e < hi) (hk : 15 ≤ hp_kd G (X e) ∧ hp_kd G (X e) ≤ 21) (h3 : 3 ≤ S.2 32 e) (hD : D + 1 ≤ d) (hd : 3 ≤ d) (ih : tyIH q S X lo hi b outs D (kls S e)) : wk_C q.1.1 mX12_all d 0 [vR (some (X e)), vR (ty q.1.1 g)] G (alP q S X b outs A0 g e G) (alX q S X b outs A0 g e G) := by
  obtain ⟨hlo, y0⟩ := hpw e h1 h2
  obtain ⟨y1, y2, y3⟩ := y0.kl (by omega)
  have kX : hp_kd G (X e) ≠ 0 := by omega
  have hlen := pw_k_len _ _ y2
  refine wk_C_of (by decide) rfl (by cases ty q.1.1 g <;> exact Nat.le_of_ble_eq_true rfl) ?_
  refine blX12_all_0 ?_
  have loop : ∀ (rest ds : List Nat) (l : Nat) (A : Nat → Int32) (G1 : GH) (x2 : Int32), ds ++ rest = kls S e → pw_k (lw (S.2 34)) l rest e → tyS q S X b outs (lw (S.2 34) e) A0 G ds l A G1 → ((x2 = 1 ∧ ∀ k ∈ ds, A k = g) ∨ (x2 = 0 ∧ ¬ ∀ k ∈ ds, A k = g)) →
      wk_V q.1.1 mX12_all (d, 0, alP q S X b outs A0 g e G, alX q S X b outs A0 g e G, hp_cs G, hp_ss G) 4 [(0, vR (some (X e))), (1, vR (ty q.1.1 g)), (2, vI x2), (3, vI (nI ds.length))] [] G1 0 := by
    intro rest
    induction rest with
    | nil =>
      intro ds l A G1 x2 hds hpk hS hx
      rw [List.append_nil] at hds
      have el : l = e := hpk
      subst hds
      have hle : l ≤ hi := by omega
      have hw1 := hw0.wt hS.2.2.1 hlo hle
      obtain ⟨L, c, r3, r4, hal⟩ := hw1.kids hpw hh h1 h2 h3
      have kX1 : 15 ≤ hp_kd G1 (X e) ∧ hp_kd G1 (X e) ≤ 21 := by rw [hS.2.2.1.1.kd kX]; exact hk
      refine blX12_all_4 kX1 r3 hal.1.1 (J5_size_C (d := 0) hal) (by show 0 + 1 ≤ d; omega) (Nat.zero_le _) ?_ (fun _ _ _ u => absurd u id)
      rintro v G9 ⟨rfl, rfl⟩
      refine blX12_all_12 (fun _ => ?_) (fun u => absurd (nI_le (Nat.le_refl _) (by omega)) u)
      rw [el] at hS
      have kB : hp_kd G9 q.1.2.2.2.1 = 3 := hw1.1.1.2.1.1
      rcases hx with ⟨rfl, hx⟩ | ⟨rfl, hx⟩
      · exact blX12_all_47 (fun _ => blX12_all_60 ⟨rfl, A, hS, hx⟩) (fun u => absurd u (by decide))
      · refine blX12_all_47 (fun u => absurd rfl u) (fun _ => ?_)
        refine blX12_all_51 kX1 (by rw [r4]; exact X1_wrong_C (d := 0) kB hw1.1.1.2.1.2) (by show 0 + 1 ≤ d; omega) (Nat.zero_le _) ?_ (fun _ _ _ u => absurd u id)
        rintro v G8 ⟨rfl, rfl⟩
        exact blX12_all_59 rfl (by show hp_kd G9 _ ≠ 0; rw [kB]; decide) (by show hp_kd G9 _ < 28; rw [kB]; decide) (wk_out0 rfl (Or.inr ⟨A, G9, hS, hx, hw1.z, rfl, rfl, rfl⟩))
    | cons k rest ihr =>
      intro ds l A G1 x2 hds hpk hS hx
      obtain ⟨p1, p2, p3, p4⟩ := hpk
      have hw1 := hw0.wt hS.2.2.1 hlo (by omega)
      obtain ⟨L, c, r3, r4, hal⟩ := hw1.kids hpw hh h1 h2 h3
      have kX1 : 15 ≤ hp_kd G1 (X e) ∧ hp_kd G1 (X e) ≤ 21 := by rw [hS.2.2.1.1.kd kX]; exact hk
      have hll : ds.length < (kls S e).length := by rw [← hds, List.length_append, List.length_cons]; omega
      have hgk : (kls S e).getD ds.length 0 = k := by rw [← hds, List.getD_eq_getElem?_getD, List.getElem?_append_right (Nat.le_refl _), Nat.sub_self]; rfl
      refine blX12_all_4 kX1 r3 hal.1.1 (J5_size_C (d := 0) hal) (by show 0 + 1 ≤ d; omega) (Nat.zero_le _) ?_ (fun _ _ _ u => absurd u id)
      rintro v G9 ⟨rfl, rfl⟩
      refine blX12_all_12 (fun u => absurd ((nI_leI (by omega) (by omega)).1 u) (by omega)) (fun _ => ?_)
      refine blX12_all_15 kX1 r3 hal.1.1 (J5_get_C (d := 2) (i := ds.length) hal hll (Nat.le_refl 2)) (by show 2 + 1 ≤ d; omega) (Nat.zero_le _) ?_ (fun _ _ _ u => absurd u id)
      rintro v G9 ⟨rfl, rfl⟩
      rw [hgk]
      have kk := hw1.k (e := k) (by have := hS.1; omega) (by omega)
      have hmem : k ∈ kls S e := by rw [← hds]; simp
      refine vkX12_all_24 (hcE kk) rfl kk (ih k hmem A _ hw1) (by show D + 1 ≤ d; omega) (Nat.zero_le _) ?_ (fun E a G' u => wk_out0 rfl (Or.inl (hS.err p1 p2 p3 u)))
      rintro v G2 hP
      obtain ⟨A2, rfl, t2, hS2, hA2⟩ := hS.step hw1 hpw hh hlo p1 p2 (by omega) hP
      have hw2 := hw0.wt hS2.2.2.1 hlo (by omega)
      have hds2 : (ds ++ [k]) ++ rest = kls S e := by rw [← hds]; simp
      have hlen2 : nI ds.length + 1 = nI (ds ++ [k]).length := by rw [nI_1, List.length_append]; rfl
      have hold : (∀ j ∈ ds, A2 j = g) ↔ ∀ j ∈ ds, A j = g := ⟨fun u j hj => by rw [← hA2 j hj]; exact u j hj, fun u j hj => by rw [hA2 j hj]; exact u j hj⟩
      have hnew : (∀ j ∈ ds ++ [k], A2 j = g) ↔ (∀ j ∈ ds, A j = g) ∧ A2 k = g := by
        constructor
        · intro u
          exact ⟨hold.1 (fun j hj => u j (by simp [hj])), u k (by simp)⟩
        · rintro ⟨u, w⟩ j hj
          rcases List.mem_append.1 hj with hj | hj
          · exact hold.2 u j hj
          · rw [List.mem_singleton.1 hj]; exact w
      refine blX12_all_30 (fun u => ?_) (fun u => ?_)
      · have ng : ¬ A2 k = g := fun w => u (by rw [w])
        refine blX12_all_38 (blX12_all_39 ?_)
        rw [hlen2]
        refine ihr _ _ _ _ _ hds2 p4 hS2 (Or.inr ⟨?_, fun w => ng (hnew.1 w).2⟩)
        rcases hx with ⟨rfl, -⟩ | ⟨rfl, -⟩ <;> decide
      · have gg : A2 k = g := (ty_01 hw2.1.2 t2 hg).1 u
        refine blX12_all_34 (blX12_all_39 ?_)
        rw [hlen2]
        refine ihr _ _ _ _ _ hds2 p4 hS2 ?_
        rcases hx with ⟨rfl, hx⟩ | ⟨rfl, hx⟩
        · exact Or.inl ⟨by decide, hnew.2 ⟨hx, gg⟩⟩
        · exact Or.inr ⟨by decide, fun w => hx (hnew.1 w).1⟩
  exact loop (kls S e) [] (lw (S.2 34) e) A0 G 1 rfl y2 tyS.z (Or.inl ⟨rfl, fun k hk => by cases hk⟩)
theorem X15_typed_C {e d D : Nat} (hw0 : tw q lo hi S X G) (hpw : pw S lo hi) (hh : hi ≤ 5000) (h1 : lo ≤ e) (h2 : e < hi) (hk : 7 ≤ S.2 32 e ∧ S.2 32 e ≤ 23) (hD : D + 2 ≤ d) (hd : 4 ≤ d) (ih : tyIH q S X lo hi b outs D (kls S e)) : wk_C q.1.1 mX15_typed d 0 [vR (some (X e))] G (tdP q S X b outs A0 e G) (tyX q S X b outs A0 e G) := by
  obtain ⟨hlo, y0⟩ := hpw e h1 h2
  obtain ⟨y1, y2, y3⟩ := y0.kl (by omega)
  have h3 : 3 ≤ S.2 32 e := Int32.le_trans (by decide) hk.1
  have kx := hw0.kdop h1 h2 hk
  have hop : hp_i G (X e) 5 = xo (S.2 32 e) := (hw0.2.1 e h1 h2).1.2.2.1.2.2.2.2.2.1 hk
  have kX0 : hp_kd G (X e) ≠ 0 := by rw [kx]; decide
  have hle := (pw_k_mem _ _ y2).1
  refine wk_C_of (by decide) rfl (Nat.le_of_ble_eq_true rfl) ?_
  have same : (xo (S.2 32 e) = 9 ∨ xo (S.2 32 e) = 10) → wk_V q.1.1 mX15_typed (d, 0, tdP q S X b outs A0 e G, tyX q S X b outs A0 e G, hp_cs G, hp_ss G) 18 [(0, vR (some (X e)))] [] G 0 := by
    intro hx
    have hs := xo_same hk hx
    obtain ⟨k0, k1, e3⟩ := ls_2 (pw_len_2 (by rcases hs with u | u <;> rw [u] <;> decide) y3)
    have y2' := y2
    rw [e3] at y2'
    obtain ⟨q01, q02, q03, q11, q12, q13, q9⟩ := y2'
    have q9 : k1 + 1 = e := q9
    have hS0 : tyS q S X b outs (lw (S.2 34) e) A0 G [] (lw (S.2 34) e) A0 G := tyS.z
    obtain ⟨L0, c0, r30, r40, hal0⟩ := hw0.kids hpw hh h1 h2 h3
    rw [e3] at hal0
    refine blX15_typed_18 kx r30 hal0.1.1 (J5_get_C (d := 2) (i := 0) hal0 (by show 0 < 2; decide) (Nat.le_refl 2)) (by show 2 + 1 ≤ d; omega) (Nat.zero_le _) ?_ (fun _ _ _ u => absurd u id)
    rintro v G9 ⟨rfl, rfl⟩
    have kk0 := hw0.k (e := k0) (by omega) (by omega)
    refine vkX15_typed_26 (hcE kk0) rfl kk0 (ih k0 (by rw [e3]; simp) A0 _ hw0) (by show D + 1 ≤ d; omega) (Nat.zero_le _) ?_ (fun E a G' u => wk_out0 rfl (by have := hS0.err q01 (by omega) (by omega) u; exact this))
    rintro v G1 hP0
    obtain ⟨A1, rfl, t1, hS1, hA1⟩ := hS0.step hw0 hpw hh hlo q01 (by omega) (by omega) hP0
    have hw1 := hw0.wt hS1.2.2.1 hlo (by omega)
    obtain ⟨L1, c1, r31, r41, hal1⟩ := hw1.kids hpw hh h1 h2 h3
    rw [e3] at hal1
    refine blX15_typed_32 (hw1.kdop h1 h2 hk) r31 hal1.1.1 (J5_get_C (d := 2) (i := 1) hal1 (by show 1 < 2; decide) (Nat.le_refl 2)) (by show 2 + 1 ≤ d; omega) (Nat.zero_le _) ?_ (fun _ _ _ u => absurd u id)
    rintro v G8 ⟨rfl, rfl⟩
    have kk1 := hw1.k (e := k1) (by omega) (by omega)
    refine vkX15_typed_41 (hcE kk1) rfl kk1 (ih k1 (by rw [e3]; simp) A1 _ hw1) (by show D + 1 ≤ d; omega) (Nat.zero_le _) ?_ (fun E a G' u => wk_out0 rfl (by have := hS1.err q11 (by omega) (by omega) u; exact this))
    rintro v G2 hP1
    obtain ⟨A2, rfl, t2, hS2, hA2⟩ := hS1.step hw1 hpw hh hlo q11 (by omega) (by omega) hP1
    have hw2 := hw0.wt hS2.2.2.1 hlo (by omega)
    have m0 : A2 k0 = A1 k0 := hA2 k0 (by simp)
    rw [← m0] at t1 ⊢
    rw [q9] at hS2
    have hj : jt S A2 e (kls S e) (if e = b then outs else 1) = jt_ok (decide (A2 k0 = A2 k1)) 1 := by rw [e3]; exact jt_same hs
    obtain ⟨L2, c2, r32, r42, hal2⟩ := hw2.kids hpw hh h1 h2 h3
    have kB : hp_kd G2 q.1.2.2.2.1 = 3 := hw2.1.1.2.1.1
    refine blX15_typed_47 (fun u => ?_) (fun u => ?_)
    · have w := (ty_01 hw2.1.2 t2 t1).1 u
      exact blX15_typed_60 (hS2.end rfl (t := 1) (by rw [hj, w, decide_eq_true rfl]; rfl) (Or.inr rfl))
    · refine blX15_typed_51 (hw2.kdop h1 h2 hk) (by rw [r42]; exact X1_wrong_C (d := 0) kB hw2.1.1.2.1.2) (by show 0 + 1 ≤ d; omega) (Nat.zero_le _) ?_ (fun _ _ _ u => absurd u id)
      rintro v G9 ⟨rfl, rfl⟩
      exact blX15_typed_59 rfl (by show hp_kd G2 _ ≠ 0; rw [kB]; decide) (by show hp_kd G2 _ < 28; rw [kB]; decide) (wk_out0 rfl (hS2.thr hw2 rfl (by rw [hj, decide_eq_false (fun w => u (by rw [w]))]; rfl)))
  refine blX15_typed_0 kx (fun u => same (Or.inl (by rw [← hop]; exact u))) (fun n9 => ?_)
  refine blX15_typed_9 kx (fun n10 => ?_) (fun u => same (Or.inr (by rw [← hop]; exact u)))
  rw [hop] at n9 n10
  have hjt := fun (A : Nat → Int32) (w : Nat) (hA : ∀ k ∈ kls S e, A k = 0 ∨ A k = 1) => jt_op (A := A) (w := w) hk n9 n10 y3 hA
  have hall : wk_V q.1.1 mX15_typed (d, 0, tdP q S X b outs A0 e G, tyX q S X b outs A0 e G, hp_cs G, hp_ss G) 102 [(0, vR (some (X e)))] [vR (ty q.1.1 (opG (xo (S.2 32 e)))), vR (some (X e))] G 0 := by
    refine blX15_typed_102 rfl kx (X12_all_C (d := d - 1) (D := D) (A0 := A0) (b := b) (outs := outs) (opG_01 _) hw0 hpw hh h1 h2 (by omega) h3 (by omega) (by omega) ih) (by show d - 1 + 1 ≤ d; omega) (Nat.zero_le _) ?_ (fun E a G' u => wk_out0 rfl ?_)
    · rintro v G1 ⟨rfl, A, hS, hg⟩
      have hA : ∀ k ∈ kls S e, A k = 0 ∨ A k = 1 := fun k hk => (hS.2.2.2 k hk).2.2.1
      have fin : ∀ t, t = opT (xo (S.2 32 e)) → wk_V q.1.1 mX15_typed (d, 0, tdP q S X b outs A0 e G, tyX q S X b outs A0 e G, hp_cs G, hp_ss G) 131 [] [vR (ty q.1.1 t)] G1 0 := by
        rintro t rfl
        exact blX15_typed_131 (hS.end rfl ((hjt A _ hA).1 hg) (opT_01 _))
      have kx1 : hp_kd G1 (X e) = 15 := hS.2.2.1.1.k kx (by decide)
      have hop1 : hp_i G1 (X e) 5 = xo (S.2 32 e) := by rw [(hS.2.2.1.2 _ kX0).1]; exact hop
      refine blX15_typed_105 kx1 (fun u => ?_) (fun u => ?_)
      · rw [hop1] at u
        exact blX15_typed_122 (fin 0 (by unfold opT; rw [if_pos (Or.inl u)]))
      · rw [hop1] at u
        refine blX15_typed_113 kx1 (fun u2 => ?_) (fun u2 => ?_)
        · rw [hop1] at u2
          exact blX15_typed_128 (fin 1 (by unfold opT; rw [if_neg (fun w => w.elim u u2)]))
        · rw [hop1] at u2
          exact blX15_typed_122 (fin 0 (by unfold opT; rw [if_pos (Or.inr u2)]))
    · rcases u with u | ⟨A, G1, hS, hg, hz, rfl, rfl, rfl⟩
      · exact u
      · have hA : ∀ k ∈ kls S e, A k = 0 ∨ A k = 1 := fun k hk => (hS.2.2.2 k hk).2.2.1
        exact hS.thr hz rfl ((hjt A _ hA).2 hg)
  refine blX15_typed_64 kx (fun u => ?_) (fun u => ?_)
  · rw [hop] at u
    refine blX15_typed_82 (blX15_typed_87 (fun w => absurd w (by decide)) (fun _ => blX15_typed_93 ?_))
    have : opG (xo (S.2 32 e)) = 0 := by unfold opG; rw [if_pos (Or.inl u)]
    rw [this] at hall
    exact hall
  · rw [hop] at u
    refine blX15_typed_73 kx (fun u2 => ?_) (fun u2 => ?_)
    · rw [hop] at u2
      refine blX15_typed_86 (blX15_typed_87 (fun _ => blX15_typed_99 ?_) (fun w => absurd rfl w))
      have : opG (xo (S.2 32 e)) = 1 := by unfold opG; rw [if_neg (fun w => w.elim u u2)]
      rw [this] at hall
      exact hall
    · rw [hop] at u2
      refine blX15_typed_82 (blX15_typed_87 (fun w => absurd w (by decide)) (fun _ => blX15_typed_93 ?_))
      have : opG (xo (S.2 32 e)) = 0 := by unfold opG; rw [if_pos (Or.inr u2)]
      rw [this] at hall
      exact hall
end
