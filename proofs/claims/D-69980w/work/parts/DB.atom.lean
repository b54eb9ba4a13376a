/-! THE COMPONENT's PARSER: arguments, atom -/
set_option maxRecDepth 100000
theorem al_pot {n c : Nat} (h : n ≤ c) : al_b n c + c ≤ al_c n c := by
  unfold al_b al_c
  by_cases q : n < c
  · rw [if_pos q, if_pos q]; omega
  · rw [if_neg q, if_neg q]
    by_cases u : c = 0
    · rw [if_pos u]; omega
    · rw [if_neg u]; omega
theorem al_cap {n c : Nat} (h : n ≤ c) (h2 : c ≤ n + n / 2 + 10) : al_c n c ≤ (n + 1) + (n + 1) / 2 + 10 ∧ n + 1 ≤ al_c n c := by
  unfold al_c
  by_cases q : n < c
  · rw [if_pos q]; omega
  · rw [if_neg q]
    by_cases u : c = 0
    · rw [if_pos u]; omega
    · rw [if_neg u]; omega
section
variable {q : PZ} {S S' : MS} {X : Nat → Nat} {G : GH} {lo : Nat}
/-- the state may change where the component doesn't look -/
theorem pst.cgS {c : Nat} (h : pst q lo c S X G) (e : pe_same S S') (h40 : S'.1 40 = S.1 40) (hq : ∀ k, k = 32 ∨ k = 33 ∨ k = 34 ∨ k = 35 ∨ k = 39 → S'.2 k = S.2 k) : pst q lo c S' X G := by
  obtain ⟨h1, h2, h3, h4⟩ := h
  have ep : pr_p S' = pr_p S := by rw [pr_p, pr_p, h40]
  refine ⟨h1, by rw [e.v]; exact h2.cgS e, fun x e1 e2 => ?_, by rw [e.2 0 (by decide) (by decide) (by decide)]; exact h4⟩
  rw [ep] at e2
  have g := h3 x e1 e2
  unfold xe xht xh at g ⊢
  rw [hq 32 (by omega), hq 33 (by omega), hq 34 (by omega), hq 35 (by omega), hq 39 (by omega), e.a]
  exact g
theorem pm_cl_same {N e : Nat} : pe_same S (pm_cl S N e) := ⟨fun k _ => rfl, fun k a b h3 => by
  funext j
  unfold pm_cl
  rw [ml_sa_a, if_neg (by omega), ml_sa_a, if_neg a]⟩
theorem pm_cl_q {N e k : Nat} (h : k ≠ 16 ∧ k ≠ 37) : (pm_cl S N e).2 k = S.2 k := by
  funext j
  unfold pm_cl
  rw [ml_sa_a, if_neg h.2, ml_sa_a, if_neg h.1]
end
section
variable {q : PZ} {rec : PF}
theorem X3_args_L {D d k c c0 p lo lf t L cap : Nat} {l : List Nat} {S00 S : MS} {X00 X : Nat → Nat} {G00 G0 G : GH} {mv : Option (Nat × Nat)} {r : PE} (ih : xq_IH q rec) (hd : d ≤ 40) (hD : 20 * (42 - d) + 45 ≤ D) (hlf : lo ≤ lf)
    (lp : ∀ l c p S X G cap, xq_pre q lo c S X G → pin q S00 X00 G00 S X G → pd q lo S G00 G X t 21 l cap L → hp_r G t 5 = some (qN q k) → cm G t mv → cap ≤ l.length + l.length / 2 + 10 → c0 ≤ c → pp_pre (rz_n q.1) 15 k l lf p c S → rec 15 d k l c S = some r → wk_V q.1.1 mX3_arguments (D, 20 * (rz_n q.1 - c0) + 20, xq_A q lo c0 S00 X00 G00 G0 t mv r, xq_X q G00 r, hp_cs G0, hp_ss G0) 21 [(0, vR (some q.1.2.1)), (1, vR (some t)), (2, vI (nI d))] [vI 1] G (20 * (rz_n q.1 - c) + 20 + (10 + 2 * l.length - cap)))
    (hs : xq_pre q lo c S X G) (pn : pin q S00 X00 G00 S X G) (hpd : pd q lo S G00 G X t 21 l cap L) (h5 : hp_r G t 5 = some (qN q k)) (hm : cm G t mv) (hcap : cap ≤ l.length + l.length / 2 + 10) (hc0 : c0 ≤ c) (hpre : pp_pre (rz_n q.1) 15 k l lf p c S) (h : pp_args (rz_T q.1) (rz_n q.1) rec d k l c S = some r) : wk_V q.1.1 mX3_arguments (D, 20 * (rz_n q.1 - c0) + 20, xq_A q lo c0 S00 X00 G00 G0 t mv r, xq_X q G00 r, hp_cs G0, hp_ss G0) 21 [(0, vR (some q.1.2.1)), (1, vR (some t)), (2, vI (nI d))] [vI 1] G (20 * (rz_n q.1 - c) + 20 + (10 + 2 * l.length - cap)) := by
  have hp := hs.1
  have kR := hp.1.1.1.1
  obtain ⟨b1, b2, b3, b4, hV⟩ := hs.nums
  obtain ⟨hpp, hpc, hcn, -, h15⟩ := id hpre
  rw [if_neg (by omega), if_pos rfl] at h15
  obtain ⟨hk, hl0, hpk, hch, hww⟩ := h15
  have hpS : pr_p S = p := by rw [pr_p, hpp, nI_clamp (by omega)]
  have hlast := pw_k_last l lf hl0 hpk
  have hmem : ∀ k ∈ l, lf ≤ k ∧ k < p := (pw_k_mem l lf hpk).2
  have hlc := hpd.2.2.1.2.2.2.2.1.1
  have hll : l.length ≤ p := by
    have : ∀ (l : List Nat) (lf : Nat), pw_k (lw (S.2 34)) lf l p → lf + l.length ≤ p := by
      intro l
      induction l with
      | nil => intro lf h; have h' : lf = p := h; simp only [List.length_nil]; omega
      | cons x l ih =>
        intro lf h
        have := ih (x + 1) h.2.2.2
        have := h.2.1
        simp only [List.length_cons]
        omega
    have := this l lf hpk
    omega
  unfold pp_args at h
  refine wk_have fun hA hB => ?_
  refine blX3_arguments_21 kR (X3_skip_C (k := 44) (d := 8) hp.1 (by decide) (Nat.le_refl 8)) (by show _ ≤ D; omega) (by omega) ?_ (fun _ _ _ u => absurd u id)
  rintro v G3 (⟨hq, rfl, t1, t2⟩ | ⟨hq, rfl, rfl⟩)
  · rw [if_pos hq] at h
    obtain ⟨tk1, tk2⟩ := lx_tk (T := rz_T q.1) (n := rz_n q.1) (c := c) (by rw [hq]; decide)
    obtain ⟨hp1, pn1⟩ := hp.scan t1 t2
    obtain ⟨d1, d2, d3⟩ := hpd.pin (by decide) hp pn1
    have n1 := pn.tr pn1
    have x1' := hs.tok hp1 (by omega)
    obtain ⟨r1, h1, hx1, h⟩ := pr_b_some h
    refine blX3_arguments_29 (fun _ => ?_) (fun u => absurd u (by decide))
    refine wk_have fun hA hB => ?_
    refine blX3_arguments_7 rfl d1.1.1 hp1.1.1.1.1 (ih.nx 0 d _ lo S X G3 r1 (20 * (42 - (d + 1)) + 60 - 0) (by decide) x1' (by omega) h1 (Nat.le_refl _)) (by show _ ≤ D; omega) (by omega) ?_ (fun E a G' u => wk_out0 rfl (u.up n1 hx1))
    rintro v G4 ⟨e1, c1, S1, X1, he1, rfl, hp2, pn2, hb2⟩
    have h := h _ _ _ he1
    obtain ⟨y1, hR1, g1, g2, g3, g4, g5, g6, g7, g8, g9⟩ := xq_R ih.2.2 h1 he1 (by omega) x1' hp2 (fun u => absurd u (by omega))
    rw [hpS] at hR1 g3 g6
    obtain ⟨d4, d5, d6⟩ := d1.pin (by decide) hp1 pn2
    have n2 := n1.tr pn2
    refine wk_bk hA hB hb2 (r' := 20 * (rz_n q.1 - c1) + 20 + (10 + 2 * l.length - cap) + 10) (by omega) ?_
    have hpot := al_pot (n := l.length) (c := cap) hlc
    obtain ⟨hcap2, hcap3⟩ := al_cap hlc hcap
    refine blX3_arguments_18 d1.2.2.1.1 d4.2.2.1.2.2.2.1.1 (pd_add (d := 6) hp2 n2 d4 (by decide) (e := e1) (by have := hs.2.2.1; omega) (by omega) (Nat.le_refl 6)) (by show _ ≤ D; omega) (by omega) ?_ (fun _ _ _ u => absurd u id)
    rintro v G5 ⟨rfl, a1, a2, a3, a4, a5⟩
    have hlast' : lf ≤ l.getLastD 0 := by
      have hm : l.getLastD 0 ∈ l := by
        rw [List.getLastD_eq_getLast?, List.getLast?_eq_some_getLast hl0]
        exact List.getLast_mem hl0
      exact (hmem _ hm).1
    have nk := nokid (lo := lo) (S := S1) (p1 := p) (a := l.getLastD 0) (fun p2 e => by rw [e, g2]; exact hR1.2.2.2.2.2.2.2.2.2.2) hlast (by omega)
    have hlen : (l ++ [e1]).length = l.length + 1 := by rw [List.length_append, List.length_singleton]
    refine wk_less ?_ (lp (l ++ [e1]) c1 (e1 + 1) (ml_sa S1 35 (l.getLastD 0) (nI e1)) X1 G5 (al_c l.length cap) ((y1.tok a1 (Nat.le_refl _)).bs nk) a2.bs a3 (by rw [a5, d6, d3]; exact h5) ?_ (by rw [hlen]; exact hcap2) (by omega) (pp_args_pre hR1 hpre (by omega)) h)
    · rw [hlen]; omega
    · unfold cm
      rw [a4, a5, d5, d6, d2, d3]
      exact hm
  · rw [if_neg hq] at h
    refine blX3_arguments_29 (fun u => absurd rfl u) (fun _ => ?_)
    refine wk_bk hA hB cb.rf (u := 0) (r' := 20 * (rz_n q.1 - c) + 20 + (10 + 2 * l.length - cap)) (by omega) ?_
    refine blX3_arguments_32 kR (X3_need_C (k := 41) (d := 9) hp.1 (by decide) (Nat.le_refl 9)) (by show _ ≤ D; omega) (by omega) ?_ (fun E a G' u => wk_out0 rfl (u.2.X pn (by rw [← h, if_neg u.1])))
    rintro v G4 ⟨rfl, hq2, t3, t4⟩
    rw [if_pos hq2] at h
    obtain ⟨tk1, tk2⟩ := lx_tk (T := rz_T q.1) (n := rz_n q.1) (c := c) (by rw [hq2]; decide)
    obtain ⟨hp1, pn1⟩ := hp.scan t3 t4
    obtain ⟨d1, d2, d3⟩ := hpd.pin (by decide) hp pn1
    have n1 := pn.tr pn1
    unfold pr_call at h
    obtain ⟨r1, h1, hx1, h⟩ := pr_b_some h
    have hNk : k < 60 := by have := hV.N.2.1; omega
    refine blX3_arguments_39 hp1.1.1.1.1 (X3_wh_C (d := 3) (mv := mv) (p := p) (kind := 3) (what := nI k) hp1 n1 d1 (by decide) ?_ hch h1 hpp (by omega) (Nat.le_refl 3)) (by show _ ≤ D; omega) (Nat.zero_le _) ?_ (fun E a G' u => wk_out0 rfl ⟨3, _, hx1 _ u.1, u.2⟩)
    · refine ⟨fun u => (u.elim (fun v => absurd v (by decide)) (fun v => absurd v (by decide))), fun u => absurd u (by decide), fun _ => ⟨?_, ?_⟩, fun u => absurd u (by decide), fun u => absurd u (by decide), fun u => absurd u.1 (by decide), fun u => absurd u (by decide)⟩
      · rw [nI_clamp (by omega), d3]; exact h5
      · have em : qM (qU q p mv) p = mv := by show (if p = p then mv else qM q p) = mv; rw [if_pos rfl]
        rw [em, d2, d3]
        exact hm
    · rintro v G5 ⟨rfl, S', he1, m1, m2⟩
      have h := h _ _ _ he1
      have hM := (pr_make_ok (by rw [he1] at h1; exact h1) hpp (by omega)).2.2
      dsimp only at hM
      refine wk_less (r' := 20 * (rz_n q.1 - lx_next (rz_T q.1) (rz_n q.1) c) + 20) (by show _ ≤ _ - 10 - 0; omega) ?_
      refine wk_cb (by omega) fun hcb => blX3_arguments_44 ⟨rfl, p, _, pm_cl S' (pr_N S') p, hp_u1 X p t, (Option.some.inj h).symm, by unfold hp_u1; rw [if_pos rfl], m1.cgS pm_cl_same rfl (fun k hk => pm_cl_q (by omega)), ?_, hcb.mono (by omega)⟩
      obtain ⟨p1, p2, p3, p4, p5, p6⟩ := m2
      exact ⟨p1.tr pm_cl_same, p2, p3, p4, p5, p6⟩
theorem X3_args_W {D d k c lo t L : Nat} {S0 S : MS} {X0 X : Nat → Nat} {G0 G : GH} {mv : Option (Nat × Nat)} {r : PE} (ih : xq_IH q rec)
    (lp : ∀ lf l c1 p S1 X1 G1 cap, lo ≤ lf → xq_pre q lo c1 S1 X1 G1 → pin q S0 X0 G0 S1 X1 G1 → pd q lo S1 G0 G1 X1 t 21 l cap L → hp_r G1 t 5 = some (qN q k) → cm G1 t mv → cap ≤ l.length + l.length / 2 + 10 → c ≤ c1 → pp_pre (rz_n q.1) 15 k l lf p c1 S1 → rec 15 d k l c1 S1 = some r → wk_V q.1.1 mX3_arguments (D, 20 * (rz_n q.1 - c) + 20, xq_A q lo c S0 X0 G0 G t mv r, xq_X q G0 r, hp_cs G, hp_ss G) 21 [(0, vR (some q.1.2.1)), (1, vR (some t)), (2, vI (nI d))] [vI 1] G1 (20 * (rz_n q.1 - c1) + 20 + (10 + 2 * l.length - cap)))
    (hk : k < pr_N S) (hs : xq_pre q lo c S X G) (pn : pin q S0 X0 G0 S X G) (hpd : pd q lo S G0 G X t 21 [] 0 L) (h5 : hp_r G t 5 = some (qN q k)) (hm : cm G t mv) (hd : d ≤ 40) (h : pp_call (rz_T q.1) (rz_n q.1) rec d k c S = some r) (hD : 20 * (42 - d) + 45 ≤ D) : wk_C q.1.1 mX3_arguments D (20 * (rz_n q.1 - c) + 20) [vR (some q.1.2.1), vR (some t), vI (nI d)] G (xq_A q lo c S0 X0 G0 G t mv r) (xq_X q G0 r) := by
  have hp := hs.1
  obtain ⟨b1, b2, b3, b4, hV⟩ := hs.nums
  have hlo := hs.2.2.1
  refine wk_C_of (by decide) rfl (Nat.le_of_ble_eq_true rfl) ?_
  unfold pp_call at h
  refine blX3_arguments_0 hp.1.1.1.1 (X3_need_C (k := 40) (d := 9) hp.1 (by decide) (Nat.le_refl 9)) (by show _ ≤ D; omega) (by omega) ?_ (fun E a G' u => wk_out0 rfl (u.2.X pn (by rw [← h, if_neg u.1])))
  rintro v G3 ⟨rfl, hq, t1, t2⟩
  rw [if_pos hq] at h
  obtain ⟨tk1, tk2⟩ := lx_tk (T := rz_T q.1) (n := rz_n q.1) (c := c) (by rw [hq]; decide)
  obtain ⟨hp1, pn1⟩ := hp.scan t1 t2
  obtain ⟨d1, d2, d3⟩ := hpd.pin (by decide) hp pn1
  have n1 := pn.tr pn1
  have x1' := hs.tok hp1 (by omega)
  obtain ⟨r1, h1, hx1, h⟩ := pr_b_some h
  refine wk_have fun hA hB => ?_
  refine blX3_arguments_7 rfl d1.1.1 hp1.1.1.1.1 (ih.nx 0 d _ lo S X G3 r1 (20 * (42 - (d + 1)) + 60 - 0) (by decide) x1' (by omega) h1 (Nat.le_refl _)) (by show _ ≤ D; omega) (by omega) ?_ (fun E a G' u => wk_out0 rfl (u.up n1 hx1))
  rintro v G4 ⟨e1, c1, S1, X1, he1, rfl, hp2, pn2, hb2⟩
  have h := h _ _ _ he1
  obtain ⟨y1, hR1, g1, g2, g3, g4, g5, g6, g7, g8, g9⟩ := xq_R ih.2.2 h1 he1 (by omega) x1' hp2 (fun u => absurd u (by omega))
  obtain ⟨d4, d5, d6⟩ := d1.pin (by decide) hp1 pn2
  have n2 := n1.tr pn2
  refine wk_bk hA hB hb2 (r' := 20 * (rz_n q.1 - c1) + 20 + 10) (by omega) ?_
  refine blX3_arguments_18 d1.2.2.1.1 d4.2.2.1.2.2.2.1.1 (pd_add (d := 6) hp2 n2 d4 (by decide) (e := e1) (by omega) (by decide) (Nat.le_refl 6)) (by show _ ≤ D; omega) (by show 1 ≤ _; omega) ?_ (fun _ _ _ u => absurd u id)
  rintro v G5 ⟨rfl, a1, a2, a3, a4, a5⟩
  refine wk_less ?_ (lp (pr_p S) ([] ++ [e1]) c1 (e1 + 1) S1 X1 G5 _ hlo (y1.tok a1 (Nat.le_refl _)) a2 a3 (by rw [a5, d6, d3]; exact h5) ?_ (by rw [List.nil_append, List.length_singleton]; decide) (by omega) ⟨g1, by omega, by omega, hV.same hR1.1, ?_⟩ h)
  · show 20 * (rz_n q.1 - c1) + 20 + (10 + 2 * 1 - 10) ≤ 20 * (rz_n q.1 - c1) + 20 + 10 - 1
    omega
  · unfold cm
    rw [a4, a5, d5, d6, d2, d3]
    exact hm
  · rw [if_neg (by omega), if_pos rfl]
    obtain ⟨s1', x1'', y1', z1, r1', u1, v1, w1, f1, l1, w1'⟩ := hR1
    refine ⟨by rw [s1'.N]; exact hk, by simp, ⟨l1, z1, by omega, rfl⟩, ⟨rfl, ?_⟩, w1'⟩
    rw [r1']
    show (-1 : Int32) < 0
    decide
theorem X3_atom_W {d c lo D : Nat} {S : MS} {X : Nat → Nat} {G : GH} {r : PE} (ih : xq_IH q rec) (hcmp : cmp_o q.1.1) (h : xq_pre q lo c S X G) (hd : d ≤ 40) (hr : pp_atom (rz_T q.1) (rz_n q.1) rec d c S = some r) (hD : 20 * (42 - d) + 60 - 13 ≤ D) : wk_C q.1.1 mX3_atom D (20 * (rz_n q.1 - c) + 20) [vR (some q.1.2.1), vI (nI d)] G (xq_N q lo c S X G r) (xq_X q G r) := by
  have hp := h.1
  have k1 := hp.1.1.1.1
  have hlo := h.2.2.1
  obtain ⟨b1, b2, b3, b4, hV⟩ := h.nums
  have sg : ∀ k, k ∈ zg_L → (hp_r G q.1.2.1 6 = zg q.1.1 k ↔ lx_kind (rz_T q.1) (rz_n q.1) c = k) := fun k hk => hp.1.sign hk
  refine wk_C_of (by decide) rfl (Nat.le_of_ble_eq_true rfl) ?_
  unfold pp_atom at hr
  refine blX3_atom_0 k1 (fun u1 => ?_) (fun u => ?_)
  · have q1 : ¬ lx_kind (rz_T q.1) (rz_n q.1) c = 2 := fun v => u1 ((sg 2 (by decide)).2 v)
    rw [if_neg q1] at hr
    -- true, false
    have tf : ∀ (b : Int32), lx_kind (rz_T q.1) (rz_n q.1) c ≠ 0 → ((lx_isW (rz_T q.1) (rz_n q.1) c "true" ∧ b = 1) ∨ (¬ lx_isW (rz_T q.1) (rz_n q.1) c "true" ∧ b = 0)) → pr_make S 1 b [] (lx_next (rz_T q.1) (rz_n q.1) c) = some r → wk_V q.1.1 mX3_atom (D, 20 * (rz_n q.1 - c) + 20, xq_N q lo c S X G r, xq_X q G r, hp_cs G, hp_ss G) 49 [(0, vR (some q.1.2.1))] [] G (20 * (rz_n q.1 - c) + 20) := by
      intro b hk0 hb hr
      obtain ⟨tk1, tk2⟩ := lx_tk (T := rz_T q.1) (n := rz_n q.1) (c := c) hk0
      refine blX3_atom_49 (by omega) (fun t ht hA => ?_)
      obtain ⟨w1, w2, w3, w4⟩ := nw_x (k := 13) hp ht
      have f1 : cf (fun _ => False) G (hp_nw G t 13 0) := cf.rf.nw ht
      have hp2 : pst q lo c S X (hp_nw G t 13 0) := hp.wr f1 (fun y u => u.elim) (fun _ _ _ _ _ u => u)
      have fin : wk_V q.1.1 mX3_atom (D, 20 * (rz_n q.1 - c) + 20, xq_N q lo c S X G r, xq_X q G r, hp_cs G, hp_ss G) 67 [(0, vR (some q.1.2.1))] [vI b, vR (some t), vR (some t)] (hp_nw G t 13 0) (20 * (rz_n q.1 - c) + 20 - 1) := by
        refine blX3_atom_67 rfl (X18_init_C (d := 2) w1 hA (Nat.le_refl 2)) (by show _ ≤ D; omega) (Nat.zero_le _) ?_ (fun _ _ _ u => absurd u id)
        rintro v G3 ⟨rfl, rfl⟩
        have f2 : cf (fun _ => False) G (hp_sR (hp_sI (hp_sI (hp_nw G t 13 0) t 2 1) t 3 b) t 4 (hp_sv q.1.1 "StreamNodes$Type" "BOOL")) := ((f1.sI (Or.inr ht)).sI (Or.inr ht)).sR (Or.inr ht)
        have i2 : hp_i (hp_sR (hp_sI (hp_sI (hp_nw G t 13 0) t 2 1) t 3 b) t 4 (hp_sv q.1.1 "StreamNodes$Type" "BOOL")) t 2 = 1 := by rw [hp_i_sR, hp_i_sI, if_pos rfl, if_neg (by decide), hp_i_sI, if_pos rfl, if_pos rfl]
        have i3 : hp_i (hp_sR (hp_sI (hp_sI (hp_nw G t 13 0) t 2 1) t 3 b) t 4 (hp_sv q.1.1 "StreamNodes$Type" "BOOL")) t 3 = b := by rw [hp_i_sR, hp_i_sI, if_pos rfl, if_pos rfl]
        have r4 : hp_r (hp_sR (hp_sI (hp_sI (hp_nw G t 13 0) t 2 1) t 3 b) t 4 (hp_sv q.1.1 "StreamNodes$Type" "BOOL")) t 4 = hp_sv q.1.1 "StreamNodes$Type" "BOOL" := by rw [hp_r_sR, if_pos rfl, if_pos rfl]
        have kt : hp_kd (hp_sR (hp_sI (hp_sI (hp_nw G t 13 0) t 2 1) t 3 b) t 4 (hp_sv q.1.1 "StreamNodes$Type" "BOOL")) t = 13 := w1
        generalize hp_sR (hp_sI (hp_sI (hp_nw G t 13 0) t 2 1) t 3 b) t 4 (hp_sv q.1.1 "StreamNodes$Type" "BOOL") = G3 at f2 i2 i3 r4 kt
        obtain ⟨S', he, m1, m2⟩ := leaf_mk (kind := 1) (p := pr_p S) hp pin.id0 ht f2 ⟨kt, hA⟩ i2 (Or.inr (Or.inl rfl)) ⟨fun _ => ⟨i3, r4⟩, fun u => absurd u (by decide), fun u => absurd u (by decide), fun u => absurd u (by decide), fun u => absurd u (by decide), fun u => absurd u.1 (by decide), fun u => absurd u (by decide)⟩ hr b1 (by omega)
        refine blX3_atom_73 m1.1.1.1.1 (X3_scan_A (d := 7) m1.1 (Nat.le_refl 7)) (by show _ ≤ D; omega) (by omega) ?_ (fun _ _ _ u => absurd u id)
        rintro v G4 ⟨rfl, t3, t4⟩
        obtain ⟨m3, m4⟩ := m1.scan t3 t4
        exact wk_cb (by omega) fun hcb => blX3_atom_78 ⟨pr_p S, _, S', _, he, by unfold hp_u1; rw [if_pos rfl], m3, m2.tr m4, hcb.mono (by omega)⟩
      refine blX3_atom_52 w2 (X3_is_C (tx := "true") (d := 2) hp2.1 hp2.2.1.1.1 (by simp [lx_words]) (Nat.le_refl 2)) (by show _ ≤ D; omega) (Nat.zero_le _) ?_ (fun _ _ _ u => absurd u id)
      rintro v G2 ⟨rfl, rfl⟩
      refine blX3_atom_59 (fun u => blX3_atom_66 ?_) (fun u => blX3_atom_62 ?_)
      · rcases hb with ⟨v1, v2⟩ | ⟨v1, v2⟩
        · exact absurd v1 (lx_b0.1 u)
        · rw [v2] at fin; exact fin
      · rcases hb with ⟨v1, v2⟩ | ⟨v1, v2⟩
        · rw [v2] at fin; exact fin
        · exact absurd (lx_b1 u) v1
    refine blX3_atom_31 k1 (X3_is_C (tx := "true") (d := 2) hp.1 hp.2.1.1.1 (by simp [lx_words]) (Nat.le_refl 2)) (by show _ ≤ D; omega) (Nat.zero_le _) ?_ (fun _ _ _ u => absurd u id)
    rintro v G2 ⟨rfl, rfl⟩
    refine blX3_atom_37 (fun u => ?_) (fun u => ?_)
    · have q2 := lx_b1 u
      rw [if_pos q2] at hr
      exact tf 1 (by rw [q2.1]; decide) (Or.inl ⟨q2, rfl⟩) hr
    · have q2 := lx_b0.1 u
      rw [if_neg q2] at hr
      refine blX3_atom_40 k1 (X3_is_C (tx := "false") (d := 2) hp.1 hp.2.1.1.1 (by simp [lx_words]) (Nat.le_refl 2)) (by show _ ≤ D; omega) (Nat.zero_le _) ?_ (fun _ _ _ u => absurd u id)
      rintro v G2 ⟨rfl, rfl⟩
      refine blX3_atom_46 (fun u => ?_) (fun u => ?_)
      · have q3 := lx_b0.1 u
        rw [if_neg q3] at hr
        refine wk_have fun hA hB => ?_
        refine blX3_atom_80 k1 (X3_skip_C (k := 40) (d := 8) hp.1 (by decide) (Nat.le_refl 8)) (by show _ ≤ D; omega) (by show 10 ≤ _ - 0 - 0; omega) ?_ (fun _ _ _ u => absurd u id)
        rintro v G3 (⟨hq, rfl, t1, t2⟩ | ⟨hq, rfl, rfl⟩)
        · rw [if_pos hq] at hr
          obtain ⟨tk1, tk2⟩ := lx_tk (T := rz_T q.1) (n := rz_n q.1) (c := c) (by rw [hq]; decide)
          obtain ⟨hp1, pn1⟩ := hp.scan t1 t2
          have x1' := h.tok hp1 (by omega)
          obtain ⟨r1, h1, hx1, hr⟩ := pr_b_some hr
          refine blX3_atom_87 (fun u => absurd u (by decide)) (fun _ => ?_)
          refine wk_have fun hA hB => ?_
          refine blX3_atom_90 hp1.1.1.1.1 (ih.nx 0 d _ lo S X G3 r1 (20 * (42 - (d + 1)) + 60 - 0) (by decide) x1' (by omega) h1 (Nat.le_refl _)) (by show _ ≤ D; omega) (by show _ ≤ _ - 0 - 0 - 10; omega) ?_ (fun E a G' u => wk_out0 rfl (u.up pn1 hx1))
          rintro v G4 ⟨e1, c1, S1, X1, he1, rfl, hp2, pn2, hb2⟩
          have hr := hr _ _ _ he1
          obtain ⟨y1, hR1, g1, g2, g3, g4, g5, g6, g7, g8, g9⟩ := xq_R ih.2.2 h1 he1 (by omega) x1' hp2 (fun u => absurd u (by omega))
          have n2 := pn1.tr pn2
          refine wk_bk hA hB hb2 (r' := 20 * (rz_n q.1 - c1) + 20 + 10) (by show _ ≤ _ - 0 - 0 - 10; omega) ?_
          refine blX3_atom_97 hp2.1.1.1.1 (X3_need_C (k := 41) (d := 9) hp2.1 (by decide) (Nat.le_refl 9)) (by show _ ≤ D; omega) (by omega) ?_ (fun E a G' u => wk_out0 rfl (u.2.X n2 (by rw [← hr, if_neg u.1])))
          rintro v G5 ⟨rfl, hq2, t3, t4⟩
          rw [if_pos hq2] at hr
          obtain ⟨tk3, tk4⟩ := lx_tk (T := rz_T q.1) (n := rz_n q.1) (c := c1) (by rw [hq2]; decide)
          obtain ⟨m1, m2⟩ := hp2.scan t3 t4
          exact wk_cb (by omega) fun hcb => blX3_atom_105 ⟨e1, _, S1, X1, (Option.some.inj hr).symm, rfl, m1, n2.tr m2, hcb.mono (by omega)⟩
        · rw [if_neg hq] at hr
          refine blX3_atom_87 (fun _ => ?_) (fun u => absurd rfl u)
          refine wk_bk hA hB cb.rf (u := 0) (r' := 20 * (rz_n q.1 - c) + 20) (by omega) ?_
          refine blX3_atom_107 k1 (X3_isName_C (d := 5) hp.1 hp.2.1.1.1 (Nat.le_refl 5)) (by show _ ≤ D; omega) (Nat.zero_le _) ?_ (fun _ _ _ u => absurd u id)
          rintro v G1 ⟨rfl, r3, r4⟩
          obtain ⟨hp1, pn1⟩ := hp.scan r3 r4
          refine blX3_atom_111 (fun u => ?_) (fun u => ?_)
          · have hnm := lx_b1 u
            rw [if_neg (fun u => u hnm)] at hr
            obtain ⟨tk1, tk2⟩ := lx_tkn (T := rz_T q.1) (n := rz_n q.1) (c := c) hnm
            obtain ⟨wa, wa1, wa2⟩ := hp1.1.2.2.2.2.2.1 hnm.1
            refine blX3_atom_119 hp1.1.1.1.1 (X3_scan_A (d := 7) hp1.1 (Nat.le_refl 7)) (by show _ ≤ D; omega) (by omega) ?_ (fun _ _ _ u => absurd u id)
            rintro v G2 ⟨rfl, t3, t4⟩
            rw [hp1.1.2.2.1, wa1]
            have wa3 := t4.1.2.2 _ _ wa2
            obtain ⟨hp2, pn2⟩ := hp1.scan t3 t4
            have n2 := pn1.tr pn2
            have kR2 := hp2.1.1.1.1
            have x2' := h.tok hp2 (by omega)
            have er2 : ∀ {k H E a}, er q.1 no9 G2 k c E a H → pr_er k c = some r → xq_X q G3 r E a H := fun u v => u.X n2 v
            have sg2 : hp_r G2 q.1.2.1 6 = zg q.1.1 40 ↔ lx_kind (rz_T q.1) (rz_n q.1) (lx_next (rz_T q.1) (rz_n q.1) c) = 40 := hp2.1.sign (by decide)
            refine blX3_atom_133 kR2 (fun u => ?_) (fun u => ?_)
            · -- a variable
              rw [if_neg (fun v => u (sg2.2 v))] at hr
              obtain ⟨y1, y2, y3⟩ := hp2.2.1.2.1
              obtain ⟨hv, v1, v2⟩ := hp2.2.1.2.2.2.1
              refine blX3_atom_194 kR2 y3 y1 v1 v2.1.1 (X3_getv (d := 25) hp2 wa3 hnm.1 v1 hcmp (Nat.le_refl 25)) (by show _ ≤ D; omega) (Nat.zero_le _) ?_ (fun _ _ _ u => absurd u id)
              rintro v G3 ⟨rfl, hp3, pn3⟩
              have n3 := n2.tr pn3
              by_cases hlt : pr_fv (rz_n q.1) S c < pr_v S
              · rw [if_pos hlt] at hr ⊢
                have hfl := pr_fv_le (c := c) hV
                obtain ⟨⟨x1, x2⟩, -⟩ := hp3.2.1.2.2.2.2.2 _ hfl hlt
                refine blX3_atom_205 (fun y hy => ?_) (fun o9 _ => ?_) (fun hy => by cases hy)
                · rw [← Option.some.inj hy, x1]
                  exact ⟨by decide, by decide, Or.inl rfl⟩
                · refine blX3_atom_222 (by show 1 ≤ _ - 0 - 10 - 0; omega) (fun t ht hA => ?_)
                  have f1 : cf (fun _ => False) G3 (hp_nw G3 t 14 0) := cf.rf.nw ht
                  have w1 : hp_kd (hp_nw G3 t 14 0) t = 14 := by rw [hp_kd_nw, if_pos rfl]
                  refine blX3_atom_225 rfl (X19_init_C (d := 2) w1 hA (Nat.le_refl 2)) (by show _ ≤ D; omega) (Nat.zero_le _) ?_ (fun _ _ _ u => absurd u id)
                  rintro v G4 ⟨rfl, rfl⟩
                  have f2 : cf (fun _ => False) G3 (hp_sR (hp_sI (hp_nw G3 t 14 0) t 2 1) t 3 (some (qV q (pr_fv (rz_n q.1) S c)))) := (f1.sI (Or.inr ht)).sR (Or.inr ht)
                  have i2 : hp_i (hp_sR (hp_sI (hp_nw G3 t 14 0) t 2 1) t 3 (some (qV q (pr_fv (rz_n q.1) S c)))) t 2 = 1 := by rw [hp_i_sR, hp_i_sI, if_pos rfl, if_pos rfl]
                  have r3' : hp_r (hp_sR (hp_sI (hp_nw G3 t 14 0) t 2 1) t 3 (some (qV q (pr_fv (rz_n q.1) S c)))) t 3 = some (qV q (pr_fv (rz_n q.1) S c)) := by rw [hp_r_sR, if_pos rfl, if_pos rfl]
                  have kt : hp_kd (hp_sR (hp_sI (hp_nw G3 t 14 0) t 2 1) t 3 (some (qV q (pr_fv (rz_n q.1) S c)))) t = 14 := w1
                  generalize hp_sR (hp_sI (hp_nw G3 t 14 0) t 2 1) t 3 (some (qV q (pr_fv (rz_n q.1) S c))) = G4 at f2 i2 r3' kt
                  have hvv := hV.N.2.2.2.1
                  obtain ⟨S', he, m1, m2⟩ := leaf_mk (kind := 2) (p := pr_p S) hp3 n3 ht f2 ⟨kt, hA⟩ i2 (Or.inr (Or.inr rfl)) ⟨fun u => (u.elim (fun v => absurd v (by decide)) (fun v => absurd v (by decide))), fun _ => by rw [nI_clamp (by omega), r3', show pr_a S + (pr_fv (rz_n q.1) S c - pr_a S) = pr_fv (rz_n q.1) S c by omega]; rfl, fun u => absurd u (by decide), fun u => absurd u (by decide), fun u => absurd u (by decide), fun u => absurd u.1 (by decide), fun u => absurd u (by decide)⟩ hr b1 (by omega)
                  exact wk_cb (by show _ - 0 - 10 - 0 - 1 - 0 ≤ _; omega) fun hcb => blX3_atom_231 ⟨pr_p S, _, S', _, he, by unfold hp_u1; rw [if_pos rfl], m1, m2, hcb.mono (by show _ - (_ - 0 - 10 - 0 - 1 - 0) ≤ _; omega)⟩
              · rw [if_neg hlt] at hr ⊢
                refine blX3_atom_205 (fun y hy => by cases hy) (fun o9 hy => by cases hy) (fun _ => ?_)
                refine blX3_atom_215 hp3.1.1.1.1 (X3_fail_C (d := 0) hp3.1.1) (by show _ ≤ D; omega) (Nat.zero_le _) ?_ (fun _ _ _ u => absurd u id)
                rintro v G4 ⟨rfl, g1, g2⟩
                refine blX3_atom_221 rfl (by rw [g2]; decide) (by rw [g2]; decide) (wk_out0 rfl ?_)
                rw [g2]
                exact g1.X n3 hr
            · -- a call
              rw [if_pos (sg2.1 u)] at hr
              obtain ⟨hv, v1, v2⟩ := hp2.2.1.2.2.1
              refine blX3_atom_143 kR2 v1 v2.1.1 (X3_getn (d := 25) hp2 wa3 hnm.1 v1 hcmp (Nat.le_refl 25)) (by show _ ≤ D; omega) (Nat.zero_le _) ?_ (fun _ _ _ u => absurd u id)
              rintro v G3 ⟨rfl, hp3, pn3⟩
              have n3 := n2.tr pn3
              by_cases hlt : pr_fn (rz_n q.1) S c < pr_N S
              · rw [if_pos hlt] at hr ⊢
                have x1 := hp3.2.1.2.2.2.2.1 _ hlt
                refine blX3_atom_151 (fun y hy => ?_) (fun o9 _ => ?_) (fun hy => by cases hy)
                · rw [← Option.some.inj hy, x1]
                  exact ⟨by decide, by decide, Or.inl rfl⟩
                · refine blX3_atom_168 (by show 1 ≤ _ - 0 - 10 - 0; omega) (fun t ht hA => ?_)
                  obtain ⟨w1, w2, w3, w4⟩ := nw_x (k := 21) hp3 ht
                  refine blX3_atom_171 w2 rfl (by rw [w3]; exact X13_init_C (d := 5) w1 hA w4 (Nat.le_refl 5)) (by show _ ≤ D; omega) (by show 1 ≤ _ - 0 - 10 - 0 - 1; omega) ?_ (fun _ _ _ u => absurd u id)
                  rintro v G4 ⟨rfl, G5, hto, rfl⟩
                  obtain ⟨L, s1, s2, s3, s4⟩ := pd_new (G3 := hp_sI (hp_sR G5 t 5 (some (qN q (pr_fn (rz_n q.1) S c)))) t 6 1) hp3 n3 ht hA (by decide) hto (((cf.rf (own := fun y => y = t)).sR (Or.inl rfl)).sI (Or.inl rfl)) (by rw [hp_i_sI, if_pos rfl, if_neg (by decide)]; rfl) ⟨by rw [hp_r_sI, hp_r_sR, if_pos rfl, if_neg (by decide)], by rw [hp_r_sI, hp_r_sR, if_pos rfl, if_neg (by decide)]⟩
                  have r5 : hp_r (hp_sI (hp_sR G5 t 5 (some (qN q (pr_fn (rz_n q.1) S c)))) t 6 1) t 5 = some (qN q (pr_fn (rz_n q.1) S c)) := by rw [hp_r_sI, hp_r_sR, if_pos rfl, if_pos rfl]
                  have i6 : hp_i (hp_sI (hp_sR G5 t 5 (some (qN q (pr_fn (rz_n q.1) S c)))) t 6 1) t 6 = 1 := by rw [hp_i_sI, if_pos rfl, if_pos rfl]
                  have r7 : hp_r (hp_sI (hp_sR G5 t 5 (some (qN q (pr_fn (rz_n q.1) S c)))) t 6 1) t 7 = none := by
                    obtain ⟨L', -, -, -, -, -, l6⟩ := hto
                    rw [hp_r_sI, hp_r_sR, if_pos rfl, if_neg (by decide), l6 7 (by decide) (by decide), hp_r_nw, if_pos rfl]
                  generalize hp_sI (hp_sR G5 t 5 (some (qN q (pr_fn (rz_n q.1) S c)))) t 6 1 = G6 at s1 s2 s3 s4 r5 i6 r7
                  refine wk_have fun hA2 hB2 => ?_
                  refine blX3_atom_182 s1.1.1.1.1 (ih.2.1 (pr_fn (rz_n q.1) S c) d _ lo S X G6 r (20 * (42 - d) + 45) t L S X _ none hlt (x2'.tok s1 (Nat.le_refl _)) s3 s2 r5 (Or.inl ⟨rfl, i6, r7⟩) hd hr (Nat.le_refl _)) (by show _ ≤ D; omega) (by show _ ≤ _ - 0 - 10 - 0 - 1 - 1; omega) ?_ (fun E a G' u => wk_out0 rfl u)
                  rintro v G7 ⟨rfl, e, c', S', X', he, hX, m1, m2, m3⟩
                  subst he
                  have hpe : pr_p S ≤ e ∧ lx_next (rz_T q.1) (rz_n q.1) c ≤ c' ∧ c' ≤ rz_n q.1 := by
                    have hR := (ih.2.2.main hr (by omega) b1 (by omega) tk2 hV (fun _ => hlt)).1
                    exact ⟨hR.2.2.2.1, hR.2.2.2.2.2.1, hR.2.2.2.2.2.2.1⟩
                  have eq0 : qU q e none = q := by
                    have := qU_self (q := q) (e := e)
                    rw [h.2.2.2 e hpe.1] at this
                    exact this
                  rw [eq0] at m1
                  refine wk_bk hA2 hB2 m3 (r' := 20 * (rz_n q.1 - c') + 20) (by show _ ≤ _ - 0 - 10 - 0 - 1 - 1; omega) ?_
                  subst hX
                  exact wk_cb (by omega) fun hcb => blX3_atom_191 ⟨e, c', S', X', rfl, rfl, m1, m2, hcb.mono (by omega)⟩
              · rw [if_neg hlt] at hr ⊢
                refine blX3_atom_151 (fun y hy => by cases hy) (fun o9 hy => by cases hy) (fun _ => ?_)
                refine blX3_atom_161 hp3.1.1.1.1 (X3_fail_C (d := 0) hp3.1.1) (by show _ ≤ D; omega) (Nat.zero_le _) ?_ (fun _ _ _ u => absurd u id)
                rintro v G4 ⟨rfl, g1, g2⟩
                refine blX3_atom_167 rfl (by rw [g2]; decide) (by rw [g2]; decide) (wk_out0 rfl ?_)
                rw [g2]
                exact g1.X n3 hr
          · have hnm := lx_b0.1 u
            rw [if_pos hnm] at hr
            refine blX3_atom_114 hp1.1.1.1.1 (X3_misfit_C (d := 1) hp1.1 (Nat.le_refl 1)) (by show _ ≤ D; omega) (Nat.zero_le _) ?_ (fun _ _ _ u => absurd u id)
            rintro v G2 ⟨rfl, g1, g2⟩
            refine blX3_atom_118 rfl (by rw [g2]; decide) (by rw [g2]; decide) (wk_out0 rfl ?_)
            rw [g2]
            exact g1.X pn1 hr
      · have q3 := lx_b1 u
        rw [if_pos q3] at hr
        exact tf 0 (by rw [q3.1]; decide) (Or.inr ⟨q2, rfl⟩) hr
  · have hk := (sg 2 (by decide)).1 u
    rw [if_pos hk] at hr
    obtain ⟨tk1, tk2⟩ := lx_tk (T := rz_T q.1) (n := rz_n q.1) (c := c) (by rw [hk]; decide)
    refine blX3_atom_10 (by omega) (fun t ht hA => ?_)
    obtain ⟨w1, w2, w3, w4⟩ := nw_x (k := 13) hp ht
    have nRt : q.1.2.1 ≠ t := fun u => by rw [← u, k1] at ht; cases ht
    have e5 : hp_i (hp_nw G t 13 0) q.1.2.1 5 = pr_dig (rz_T q.1) (lx_end (rz_T q.1) (rz_n q.1) c) c 0 := by rw [hp_i_nw, if_neg nRt]; exact hp.1.2.2.2.2.2.2 hk
    refine blX3_atom_13 w2 rfl (by rw [e5]; exact X18_init_C (d := 2) w1 hA (Nat.le_refl 2)) (by show _ ≤ D; omega) (Nat.zero_le _) ?_ (fun _ _ _ u => absurd u id)
    rintro v G3 ⟨rfl, rfl⟩
    have f1 : cf (fun _ => False) G (hp_nw G t 13 0) := cf.rf.nw ht
    generalize hb : pr_dig (rz_T q.1) (lx_end (rz_T q.1) (rz_n q.1) c) c 0 = b at hr ⊢
    have f2 : cf (fun _ => False) G (hp_sR (hp_sI (hp_sI (hp_nw G t 13 0) t 2 1) t 3 b) t 4 (hp_sv q.1.1 "StreamNodes$Type" "INT")) := ((f1.sI (Or.inr ht)).sI (Or.inr ht)).sR (Or.inr ht)
    have i2 : hp_i (hp_sR (hp_sI (hp_sI (hp_nw G t 13 0) t 2 1) t 3 b) t 4 (hp_sv q.1.1 "StreamNodes$Type" "INT")) t 2 = 1 := by rw [hp_i_sR, hp_i_sI, if_pos rfl, if_neg (by decide), hp_i_sI, if_pos rfl, if_pos rfl]
    have i3 : hp_i (hp_sR (hp_sI (hp_sI (hp_nw G t 13 0) t 2 1) t 3 b) t 4 (hp_sv q.1.1 "StreamNodes$Type" "INT")) t 3 = b := by rw [hp_i_sR, hp_i_sI, if_pos rfl, if_pos rfl]
    have r4 : hp_r (hp_sR (hp_sI (hp_sI (hp_nw G t 13 0) t 2 1) t 3 b) t 4 (hp_sv q.1.1 "StreamNodes$Type" "INT")) t 4 = hp_sv q.1.1 "StreamNodes$Type" "INT" := by rw [hp_r_sR, if_pos rfl, if_pos rfl]
    have kt : hp_kd (hp_sR (hp_sI (hp_sI (hp_nw G t 13 0) t 2 1) t 3 b) t 4 (hp_sv q.1.1 "StreamNodes$Type" "INT")) t = 13 := w1
    generalize hp_sR (hp_sI (hp_sI (hp_nw G t 13 0) t 2 1) t 3 b) t 4 (hp_sv q.1.1 "StreamNodes$Type" "INT") = G3 at f2 i2 i3 r4 kt
    obtain ⟨S', he, m1, m2⟩ := leaf_mk (kind := 0) (p := pr_p S) hp pin.id0 ht f2 ⟨kt, hA⟩ i2 (Or.inl rfl) ⟨fun _ => ⟨i3, r4⟩, fun u => absurd u (by decide), fun u => absurd u (by decide), fun u => absurd u (by decide), fun u => absurd u (by decide), fun u => absurd u.1 (by decide), fun u => absurd u (by decide)⟩ hr b1 (by omega)
    refine blX3_atom_24 m1.1.1.1.1 (X3_scan_A (d := 7) m1.1 (Nat.le_refl 7)) (by show _ ≤ D; omega) (by omega) ?_ (fun _ _ _ u => absurd u id)
    rintro v G4 ⟨rfl, t3, t4⟩
    obtain ⟨m3, m4⟩ := m1.scan t3 t4
    exact wk_cb (by omega) fun hcb => blX3_atom_29 ⟨pr_p S, _, S', _, he, by unfold hp_u1; rw [if_pos rfl], m3, m2.tr m4, hcb.mono (by omega)⟩
end
