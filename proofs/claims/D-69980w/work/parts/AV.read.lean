/-! read of the reference: the contract -/
set_option maxRecDepth 100000
/-- what stands while read fails -/
def rd_F (ap' : Nat) (σ : MS) : Prop := σ.1 49 = -1 ∧ σ.1 2 = 0 ∧ σ.1 72 = 0 ∧ σ.1 83 = 0 ∧ σ.1 55 = nI ap' ∧ σ.2 12 0 = 0
theorem rd_t_1 {σ : MS} {q : Nat} : (rd_t σ).1 q = if q = 1 then 0 else σ.1 q := rfl
theorem rd_t_2 {σ : MS} {q : Nat} (h : q ≠ 73) (h2 : q ≠ 75) : (rd_t σ).2 q = σ.2 q := by
  unfold rd_t md_fl
  funext j
  rw [ml_saA_a, if_neg h2, ml_saA_a, if_neg h]
  rfl
section
variable {z : MZ} {T : Nat → Int32} {n ap : Nat} {S0 : MS} {d : Nat}
def rd_j (z : MZ) (d : Nat) (T : Nat → Int32) (n ap : Nat) (S0 : MS) : MG := (d, 1, (fun v G' => ∃ σ', ml_W z σ' G' ∧ hp_fr (ml_own z) z.2.2.2 G' ∧ rd_P T n ap S0 v σ'), fun _ _ _ => False)
theorem rd_tail {kd pl : Int32} {ap' r : Nat} {σ : MS} (hd : 2 ≤ d) (hF : rd_F ap' σ) (hE : rd_E T n ap S0 kd pl ap') {G : GH} (hW : ml_W z (ml_sf (ml_sf σ 3 kd) 4 pl) G) (hf : hp_fr (ml_own z) z.2.2.2 G) : wk_V z.1 mX6_read (mg_j z (rd_j z d T n ap S0)) 292 [(0, vR (some z.2.1))] [] G r := by
  obtain ⟨f1, f2, f3, f4, f5, f6⟩ := hF
  refine read_tail hW hf hd (fun G2 hW2 hf2 _ => ⟨_, hW2, hf2, Or.inl ⟨kd, pl, ap', ?_, hE, ?_, ?_, ?_, ?_, ?_, ?_, ?_, ?_, ?_⟩⟩)
  · have e : rd_v (ml_sf (ml_sf σ 3 kd) 4 pl) = -1 := by
      have e49 : (ml_sf (ml_sf σ 3 kd) 4 pl).1 49 = -1 := by
        rw [ml_sf_f, if_neg (by omega), ml_sf_f, if_neg (by omega)]
        exact f1
      unfold rd_v
      rw [e49, if_neg (by decide)]
    rw [e]
  · rw [rd_t_1, if_neg (by omega), ml_sf_f, if_neg (by omega), ml_sf_f, if_neg (by omega)]; exact f1
  · rw [rd_t_1, if_neg (by omega), ml_sf_f, if_neg (by omega), ml_sf_f, if_pos rfl]
  · rw [rd_t_1, if_neg (by omega), ml_sf_f, if_pos rfl]
  · rw [rd_t_1, if_neg (by omega), ml_sf_f, if_neg (by omega), ml_sf_f, if_neg (by omega)]; exact f5
  · rw [rd_t_1, if_pos rfl]
  · rw [rd_t_1, if_neg (by omega), ml_sf_f, if_neg (by omega), ml_sf_f, if_neg (by omega)]; exact f2
  · rw [rd_t_1, if_neg (by omega), ml_sf_f, if_neg (by omega), ml_sf_f, if_neg (by omega)]; exact f3
  · rw [rd_t_1, if_neg (by omega), ml_sf_f, if_neg (by omega), ml_sf_f, if_neg (by omega)]; exact f4
  · rw [rd_t_2 (by omega) (by omega)]; exact f6
/-- a Wrong that comes out of a call -/
theorem rd_kx {PX : Int32 → Int32 → MS → Prop} {pc r : Nat} (hd : 2 ≤ d) (hpc : 102 ≤ pc ∧ pc < 272) (h : ∀ kd pl σ, PX kd pl σ → ∃ ap', rd_F ap' σ ∧ rd_E T n ap S0 kd pl ap') : ∀ E9 q9 G9, ml_X z PX E9 q9 G9 → wk_T z.1 mX6_read (mg_j z (rd_j z d T n ap S0)) pc [(0, vR (some z.2.1))] G9 r E9 q9 := fun E9 q9 G9 h9 =>
  read_catch hpc h9 (fun kd pl σ hP G' hW hf _ => by
    obtain ⟨ap', r1, r2⟩ := h kd pl σ hP
    exact rd_tail hd r1 r2 hW hf)
/-- a Wrong of read's own -/
theorem rd_178 {ap' : Nat} {σ : MS} {E : GH → Prop} (hd : 10 ≤ d) (h1 : σ.1 1 = nI n) (hF : rd_F ap' σ) (hE : rd_E T n ap S0 3 (nI n) ap') : mg_V z mX6_read (rd_j z d T n ap S0) 178 [(0, vR (some z.2.1))] [] σ E 1 := by
  refine mgread_178 (Nat.le_refl 1) (fun q => ?_)
  refine mgread_181 rfl (X23_init_C (Nat.le_refl 4)) (fun G g => g) (by show 4 + 1 ≤ d; omega) (Nat.zero_le _) ?_ (by show 1 - 1 < 1; omega)
  intro G g1 g2 g3
  refine wk_athrow (by rw [g3.1]; decide) (by rw [g3.1]; decide) dX6_read_190 ?_
  rw [g3.1]
  show wk_T _ _ _ _ _ _ _ "StreamNodesModel$Wrong" q
  refine rd_kx (PX := fun kd pl σ' => kd = 3 ∧ pl = nI n ∧ σ' = σ) (by omega) (by decide) (fun kd pl σ' ⟨a, b, c⟩ => ⟨ap', by rw [c]; exact hF, by rw [a, b]; exact hE⟩) _ _ _ ⟨rfl, g3.1, σ, g1, g2.1, g3.2.1, ?_, rfl⟩
  rw [g3.2.2, h1]
theorem X6_read_C {σ : MS} (hd : 1000 ≤ d) (hw : ml_ws z) (hn : n ≤ 5000) (h1 : σ.1 1 = nI n) (h12 : σ.2 12 0 = 0) (h55 : σ.1 55 = nI ap) (hap : ap ≤ 30000) (hEB : rd_EB) : ∀ G, ml_W z σ G → ml_FC z G → wk_C z.1 mX6_read d 1 [vR (some z.2.1)] G (fun v G' => ∃ σ', ml_W z σ' G' ∧ hp_fr (ml_own z) z.2.2.2 G' ∧ rd_P (σ.2 0) n ap (lx_nz (rd_0 σ)) v σ') (fun _ _ _ => False) := by
  intro G hW hFC
  refine wk_C_ofH (by decide) rfl (Nat.le_of_ble_eq_true rfl) ?_
  rw [hFC.2.1, hFC.2.2]
  obtain ⟨hs, hI, hT0⟩ := rd_I hn h1 h12
  have hS0 : ∀ q, ¬ (5 ≤ q ∧ q ≤ 9) → (lx_nz (rd_0 σ)).1 q = (rd_0 σ).1 q := fun q hq => if_neg hq
  have hS02 : (lx_nz (rd_0 σ)).2 = (rd_0 σ).2 := rfl
  have z0 : ∀ q, q = 2 ∨ q = 3 ∨ q = 4 ∨ q = 50 ∨ q = 51 ∨ q = 52 ∨ q = 53 ∨ q = 54 ∨ q = 67 ∨ q = 72 ∨ q = 83 → (lx_nz (rd_0 σ)).1 q = 0 := fun q hq => by rw [hS0 q (by omega), rd_0_1, if_neg (by omega), if_pos (by omega)]
  have z49 : (lx_nz (rd_0 σ)).1 49 = -1 := by rw [hS0 49 (by omega), rd_0_1, if_pos rfl]
  have z55 : (lx_nz (rd_0 σ)).1 55 = nI ap := by rw [hS0 55 (by omega), rd_0_1, if_neg (by omega), if_neg (by omega)]; exact h55
  have z1 : (lx_nz (rd_0 σ)).1 1 = nI n := by rw [hS0 1 (by omega), rd_0_1, if_neg (by omega), if_neg (by omega)]; exact h1
  have z12 : (lx_nz (rd_0 σ)).2 12 0 = 0 := by rw [hS02, rd_0_2, if_neg (by omega)]; exact h12
  generalize hT : σ.2 0 = T at *
  have hstart : mg_V z mX6_read (rd_j z d T n ap (lx_nz (rd_0 σ))) 102 [(0, vR (some z.2.1))] [] (rd_0 σ) (fun _ => True) 1 → wk_V z.1 mX6_read (mg_j z (rd_j z d T n ap (lx_nz (rd_0 σ)))) 0 [(0, vR (some z.2.1))] [] G 1 := fun K =>
    mgread_0 (mgread_20 (mgread_40 (vp_in_nI (n := 0) (by decide) (by decide)) (mgread_62 (mgread_82 K)))) (E := fun _ => True) G hW hFC.F trivial
  refine hstart ?_
  generalize hS : lx_nz (rd_0 σ) = S at *
  have hne := nds_nn (f0 := 20 * n + 20) (Nat.le_refl _) (n + 1) (lx_skip T n 0) S (by omega) hI hT0
  obtain ⟨r, hr⟩ : ∃ r, nds T n (20 * n + 20) (n + 1) (lx_skip T n 0) S = some r := Option.ne_none_iff_exists'.1 hne
  have hd2 : 2 ≤ d := by omega
  have hX1 : rg_X z (rd_j z d T n ap S) (pq_X S r) := by
    rintro kd pl σ1 ⟨c', e1, e2, e3⟩ G' hW' hf'
    have e13 := e3.1.1
    have f : ∀ q, q < 5 ∨ 49 ≤ q → σ1.1 q = S.1 q := fun q hq => by
      rw [← e13 q hq]
      show _ = if 5 ≤ q ∧ q ≤ 9 then 0 else σ1.1 q
      rw [if_neg (by omega)]
    refine rd_tail hd2 ⟨by rw [f 49 (by omega)]; exact z49, by rw [f 2 (by omega)]; exact z0 2 (by omega), by rw [f 72 (by omega)]; exact z0 72 (by omega), by rw [f 83 (by omega)]; exact z0 83 (by omega), by rw [f 55 (by omega)]; exact z55, ?_⟩ (Or.inl ⟨c', by rw [rd_R, hr, e1], e2, rfl⟩) hW' hf'
    have := e3.1.2
    rw [z12] at this
    exact this
  refine rg_nodes (jm := rd_j z d T n ap S) hw (by show 960 ≤ d; omega) (Nat.le_refl 1) (fun _ h => h) hX1 (fun c' S1 σ1 E' her hs1 => ?_) (n + 1) (lx_skip T n 0) S (rd_0 σ) _ hr hs hT0 hI md_px.rf
  rw [her] at hr
  obtain ⟨-, hI1, -, hpx, hNlt⟩ := nds_ok _ _ _ _ _ _ hr hI hT0
  obtain ⟨v1, v2, v3, v4, v5, v6, v7, v8, v9⟩ := hI1.1.1.N
  have hnf0 : nfs T n S (fun _ => pr_v S) (fun _ => pr_k S) (fun _ => pr_p S) (fun _ => pr_l S) := by
    have e0 : ∀ q, q = 18 ∨ q = 40 → S.1 q = 0 := fun q hq => by
      rw [← hS]
      show (if 5 ≤ q ∧ q ≤ 9 then 0 else (rd_0 σ).1 q) = 0
      rw [if_neg (by omega), rd_0_1, if_neg (by omega), if_pos (by omega)]
    have eN : pr_N S = 0 := by rw [pr_N, e0 18 (by omega)]; rfl
    have ep : pr_p S = 0 := by rw [pr_p, e0 40 (by omega)]; rfl
    exact ⟨⟨rfl, rfl, rfl, rfl⟩, fun f hf => by rw [eN] at hf; omega, fun u => by rw [eN] at u; omega, fun e he => by rw [ep] at he; omega⟩
  obtain ⟨A, Q, P, L, hF1⟩ := nds_nfs _ _ _ _ _ _ _ _ _ _ hr hI hT0 hnf0
  have s2 := hs1.s2
  have hF : nfs T n σ1 A Q P L := hF1.cg (fun q hq => hs1.s1 q (by omega)) (fun q _ => by rw [s2])
  have eN1 : pr_N σ1 = pr_N S1 := by rw [pr_N, pr_N, hs1.s1 18 (by omega)]
  have f1 : ∀ q, q < 5 ∨ 49 ≤ q → σ1.1 q = S.1 q := fun q hq => by rw [hs1.s1 q (by omega)]; exact hpx.1.1 q hq
  have hN1 : 1 ≤ pr_N S1 := by omega
  have e18 : σ1.1 18 = nI (pr_N σ1) := by rw [hs1.s1 18 (by omega), eN1]; exact v1
  have hN60 := pr_N60 hF
  refine mgread_113 ?_
  refine rg_around (jm := rd_j z d T n ap S) (A := A) (Q := Q) (P := P) (L := L) (by show 20 ≤ d; omega) (pr_N σ1) 0 σ1 _ hF hN60 e18 (by omega) (fun E' => ?_)
  obtain ⟨hac, hacI, hF2⟩ := acs_ok (pr_N σ1) 0 σ1 hF hN60 (by omega) ⟨fun g hg => by omega, fun g hg => by omega⟩
  generalize hσ2 : acs A Q (pr_N σ1) 0 σ1 = σ2 at hac hacI hF2
  have eN2 : pr_N σ2 = pr_N S1 := by rw [pr_N, hac.1, ← pr_N, eN1]
  rw [eN1, ← eN2] at hacI
  have hK2 : rw_K T n σ2 A Q P L := ⟨hF2, hacI.1⟩
  have a2 : ∀ q, q < 43 → σ2.2 q = S1.2 q := fun q hq => by rw [hac.2 q (Or.inl hq), s2]
  have f2 : ∀ q, q < 5 ∨ 49 ≤ q → σ2.1 q = S.1 q := fun q hq => by rw [hac.1]; exact f1 q hq
  have e18' : σ2.1 18 - 1 = nI (pr_N σ2 - 1) := by
    rw [hac.1, e18]
    have : pr_N σ1 = pr_N σ2 := by rw [eN1, eN2]
    rw [this]
    show nI (pr_N σ2) - nI 1 = _
    exact pk_sub (by omega)
  have cN : (nI (pr_N σ2 - 1)).toNatClampNeg = pr_N σ2 - 1 := nI_clamp (by omega)
  have eow : own_p σ2 = own_p S1 := by
    funext x
    unfold own_p pn_lo pn_hi
    rw [a2 15 (by omega), a2 29 (by omega), a2 27 (by omega)]
  have evc : vcn σ2 = vcn S1 := funext fun x => by rw [vcn, vcn, a2 12 (by omega)]
  have htp : ts (own_p σ2) σ2 (pr_N σ2) (pr_N σ2 - 1) = rd_tp S1 := by
    rw [rd_tp, eow, eN2]
    exact ts_cg2 (fun q hq => a2 q (by omega)) _ _
  have hvc : ts (vcn σ2) σ2 (pr_N σ2) (pr_N σ2 - 1) = rd_vc S1 := by
    rw [rd_vc, evc, eN2]
    exact ts_cg2 (fun q hq => a2 q (by omega)) _ _
  have e48 : σ2.2 48 (pr_N σ2 - 1) = nI (min (rd_tp S1) 100000) := by
    have := hacI.2 (pr_N σ2 - 1) (by omega)
    rw [show pr_N σ2 - 1 + 1 = pr_N σ2 by omega, htp] at this
    exact this
  have hFF : rd_F ap σ2 := ⟨by rw [f2 49 (by omega)]; exact z49, by rw [f2 2 (by omega)]; exact z0 2 (by omega), by rw [f2 72 (by omega)]; exact z0 72 (by omega), by rw [f2 83 (by omega)]; exact z0 83 (by omega), by rw [f2 55 (by omega)]; exact z55, by rw [a2 12 (by omega), hpx.1.2]; exact z12⟩
  have e1n : σ2.1 1 = nI n := by rw [f2 1 (by omega)]; exact z1
  have hRR : rd_R T n S = some (.inr (0, c', S1)) := hr
  have vN : vp_in (σ2.1 18 - 1) 60 := by rw [e18']; exact vp_in_nI (by omega) (by decide)
  have t178 : ∀ E', (3000 < rd_tp S1 ∨ 30000 < ap + rd_tp S1) → mg_V z mX6_read (rd_j z d T n ap S) 178 [(0, vR (some z.2.1))] [] σ2 E' 1 := fun E' hq =>
    rd_178 (by omega) e1n hFF (Or.inr (Or.inl ⟨c', S1, hRR, rfl, rfl, rfl, hq.imp id Or.inl⟩))
  refine mgread_139 vN (fun q => ?_) (fun q => ?_)
  · rw [e18', cN, e48] at q
    have := (nI_ltI (a := 3000) (b := min (rd_tp S1) 100000) (by omega) (by omega)).1 q
    exact t178 _ (Or.inl (by omega))
  rw [e18', cN, e48] at q
  have htp3 : rd_tp S1 ≤ 3000 := by
    rcases Nat.lt_or_ge 3000 (rd_tp S1) with u | u
    · exact absurd (show nI 3000 < nI (min (rd_tp S1) 100000) from nI_lt (by omega) (by omega)) q
    · exact u
  rw [Nat.min_eq_left (by omega)] at e48
  have e5548 : σ2.1 55 + σ2.2 48 (σ2.1 18 - 1).toNatClampNeg = nI (ap + rd_tp S1) := by rw [e18', cN, e48, hFF.2.2.2.2.1, nI_add]
  refine mgread_156 vN (fun q => ?_) (fun q => t178 _ (Or.inr (by
    rw [e5548] at q
    rcases Nat.lt_or_ge 30000 (ap + rd_tp S1) with u | u
    · exact u
    · exact absurd (show nI (ap + rd_tp S1) ≤ nI 30000 from nI_le u (by decide)) q)))
  rw [e5548] at q
  have hap2 : ap + rd_tp S1 ≤ 30000 := (nI_leI (a := ap + rd_tp S1) (b := 30000) (by omega) (by omega)).1 q
  obtain ⟨m, hm⟩ : ∃ m, pr_N σ2 = m + 1 := ⟨pr_N σ2 - 1, by omega⟩
  have em : pr_N σ2 - 1 = m := by omega
  have eS1m : pr_N S1 - 1 = m := by omega
  rw [em] at e18' cN e48 htp hvc
  rw [hm] at htp hvc
  have ow := fun x (hx : x < pr_N σ2) => own_le hF2 hx
  have t1 := ts_leN hF2 (g := own_p σ2) (g' := one1) (c := 1) (fun x hx => by have := (ow x hx).1; show 1 ≤ _; omega) (m + 1) m (by omega)
  have t2 := ts_leN hF2 (g := own_p σ2) (g' := kcn σ2) (c := 1) (fun x hx => by have := (ow x hx).2.1; omega) (m + 1) m (by omega)
  have t3 := ts_leN hF2 (g := own_p σ2) (g' := stn σ2) (c := 2) (fun x hx => (ow x hx).2.2) (m + 1) m (by omega)
  have hc0 : pi_c σ2 0 0 0 0 := ⟨by rw [f2 50 (by omega)]; exact z0 50 (by omega), by rw [f2 54 (by omega)]; exact z0 54 (by omega), by rw [f2 52 (by omega)]; exact z0 52 (by omega), by rw [f2 51 (by omega)]; exact z0 51 (by omega)⟩
  have hFs : ∀ σ', pi_same σ2 σ' → rd_F ap σ' := fun σ' hp => by
    obtain ⟨q1, q2, q3, q4, q5, q6⟩ := hFF
    exact ⟨by rw [hp.1 49 (by omega)]; exact q1, by rw [hp.1 2 (by omega)]; exact q2, by rw [hp.1 72 (by omega)]; exact q3, by rw [hp.1 83 (by omega)]; exact q4, by rw [hp.1 55 (by omega)]; exact q5, by rw [hp.2 12 (by omega)]; exact q6⟩
  refine mgread_191 (P := fun v σ' _ => v = some (vI (nI 0)) ∧ pi (m + 1) m (-1) (-1) σ2 = some σ') (PX := fun kd pl σ' => kd = 3 ∧ pl = σ2.1 1 ∧ pi (m + 1) m (-1) (-1) σ2 = none ∧ pi_same σ2 σ') (d' := 200) (b' := 1) (by rw [e18']; exact X6_putIn_C hF2 (m + 1) 200 m (-1) (-1) σ2 0 0 0 0 pi_same.rf (by omega) (by omega) hc0 (by omega) (by omega) (by omega) (Nat.zero_le _) (by omega)) (by show 200 + 1 ≤ d; omega) (Nat.le_refl 1) (mg_krv fun σ3 h3 => ?_) (rd_kx hd2 (by decide) (fun kd pl σ' ⟨r1, r2, r3, r4⟩ => ⟨ap, hFs σ' r4, ?_⟩))
  · have hG := pi_full hF2 (m + 1) m (-1) (-1) σ2 σ3 0 0 0 0 h3 pi_same.rf (by omega) (by omega) hc0 (by omega) (by omega) (by omega) (Nat.zero_le _)
    obtain ⟨hp3, h53⟩ := pi_53 hF2 (m + 1) m (-1) (-1) σ2 σ3 h3 pi_same.rf (by omega) (by omega)
    have e183 : σ3.1 18 - 1 = nI m := by rw [hp3.1 18 (by omega)]; exact e18'
    refine mgread_203 (by rw [e183]; exact vp_in_nI (by omega) (by decide)) ?_
    rw [e183, cN, hp3.1 55 (by omega), hp3.2 48 (by omega), hFF.2.2.2.2.1, e48, nI_add]
    generalize hσ4 : ml_sf σ3 55 (nI (ap + rd_tp S1)) = σ4
    have e42 : σ4.2 = σ3.2 := by rw [← hσ4]; rfl
    have e41 : ∀ q, q ≠ 55 → σ4.1 q = σ3.1 q := fun q hq => by rw [← hσ4, ml_sf_f, if_neg hq]
    have e455 : σ4.1 55 = nI (ap + rd_tp S1) := by rw [← hσ4, ml_sf_f, if_pos rfl]
    obtain ⟨hK4, B, M, C, hI4, hB4, hM4⟩ := rw_of hK2 hm.symm hp3 hG (by rw [htp]; exact htp3) e42 e41
    generalize hI9 : ts one1 σ2 (m + 1) m = I at hI4 hB4 hM4 t1
    obtain ⟨B', M', C', -, ⟨y1, y2, y3, y4⟩, -⟩ := hG
    rw [Nat.zero_add] at y1 y2 y3 y4
    rw [hI9] at y1
    have h50 : σ4.1 50 = nI I := by rw [e41 50 (by omega)]; exact y1
    have h51 : σ4.1 51 = nI (B I) := by rw [e41 51 (by omega), hB4]; exact y4
    have h52 : σ4.1 52 = nI (M I) := by rw [e41 52 (by omega), hM4]; exact y3
    have h533 : σ4.1 53 = nI (M I) := by
      have : σ2.1 53 = 0 := by rw [f2 53 (by omega)]; exact z0 53 (by omega)
      rw [e41 53 (by omega), h53, this, hM4, Int32.zero_add]
    have a4 : ∀ q, q < 56 → σ4.2 q = σ2.2 q := fun q hq => by rw [e42, hp3.2 q (by omega)]
    have eN4 : pr_N σ4 = m + 1 := by rw [pr_N, e41 18 (by omega), hp3.1 18 (by omega), ← pr_N, hm]
    have eow4 : own_p σ4 = own_p σ2 := by
      funext x
      unfold own_p pn_lo pn_hi
      rw [a4 15 (by omega), a4 29 (by omega), a4 27 (by omega)]
    have hb : ce σ4 (B I) ≤ 40000 := by
      refine hEB T n σ4 A Q P L B M C I hK4 hI4 ?_ ?_
      · rw [eN4, ← hI9]
        exact (ts_cg2 (fun q hq => a4 q (by omega)) _ _).symm
      · rw [eN4, eow4]
        refine Nat.le_trans (Nat.le_of_eq (ts_cg2 (fun q hq => a4 q (by omega)) _ _)) ?_
        show ts (own_p σ2) σ2 (m + 1) m ≤ 3000
        rw [htp]
        exact htp3
    have h67 : σ4.1 67 = nI 0 := by
      rw [e41 67 (by omega), hp3.1 67 (by omega), f2 67 (by omega)]
      exact z0 67 (by omega)
    refine rg_causes (jm := rd_j z d T n ap S) hK4 hI4 h51 hb (by show 10 ≤ d; omega) (fun σ5 E5 hg => ?_) (B I) 0 σ4 _ (by omega) ⟨fun _ _ _ => rfl, fun _ _ => rfl, h67, fun w hw => by omega⟩
    have hB6 : B I ≤ 6000 := hI4.1.2.2.2.1
    have e51 : σ5.1 51 = nI (B I) := by rw [hg.2.1 51 (by omega)]; exact h51
    have cB : (nI (B I)).toNatClampNeg = B I := nI_clamp (by omega)
    have hgr := rw_gr hK4 hI4 h51 hb hg
    generalize hσ6 : ml_sa σ5 65 (B I) (σ5.1 67) = σ6 at hgr
    have e62 : ∀ q, q ≠ 65 → q ≠ 66 → σ6.2 q = σ4.2 q := fun q q1 q2 => by
      rw [← hσ6, ← hg.1 q q1 q2]
      funext i
      rw [ml_sa_a, if_neg q1]
    have e61 : ∀ q, q ≠ 67 → σ6.1 q = σ4.1 q := fun q hq => by rw [← hσ6]; exact hg.2.1 q hq
    have e64 : ∀ q, q ≤ 64 → σ6.2 q = σ4.2 q := fun q hq => e62 q (by omega) (by omega)
    have hK6 : rw_K T n σ6 A Q P L := hK4.cg (fun q hq => e61 q (by omega)) e64
    have hI6 : rw_I σ6 I B M C := hI4.cg (e61 18 (by omega)) e64
    have ece : ce σ6 = ce σ4 := funext (ce_cg e64)
    have egE : gE σ6 = gE σ4 := gE_cg e64
    rw [← ece, ← egE] at hgr
    have hG6 : rd_G T n S1 σ6 A Q P L B M C I := by
      refine ⟨hK6, hI6, fun q hq => ?_, fun q hq => ?_, ?_, ?_, ?_, ?_, ?_, hgr, σ2, σ3, by rw [show pr_N S1 = m + 1 by omega]; exact h3, a2, hc0, eN2, fun q q1 q2 => by rw [e64 q (by omega), e42]⟩
      · rw [e64 q (by omega), a4 q (by omega)]; exact a2 q hq
      · rw [e61 q (by omega), e41 q (by omega), hp3.1 q (by omega), hac.1]
        exact hs1.s1 q (by omega)
      · rw [e61 50 (by omega)]; exact h50
      · rw [e61 51 (by omega)]; exact h51
      · rw [e61 52 (by omega)]; exact h52
      · rw [e61 53 (by omega)]; exact h533
      · rw [eS1m, e64 48 (by omega), a4 48 (by omega)]; exact e48
    have hvc6 : rd_vc S1 ≤ 6000 := by rw [← hvc, ← hB4]; exact hB6
    have fs : ∀ q, q = 2 ∨ q = 3 ∨ q = 4 ∨ q = 72 ∨ q = 83 → σ6.1 q = 0 := fun q hq => by
      rw [e61 q (by omega), e41 q (by omega), hp3.1 q (by omega), f2 q (by omega)]
      exact z0 q (by omega)
    have f49 : σ6.1 49 = -1 := by rw [e61 49 (by omega), e41 49 (by omega), hp3.1 49 (by omega), f2 49 (by omega)]; exact z49
    have f12 : σ6.2 12 0 = 0 := by rw [e64 12 (by omega), a4 12 (by omega)]; exact hFF.2.2.2.2.2
    refine mgread_245 (P := fun u σ' _ => u = none ∧ or_ok σ6 (B I) (gE σ6) σ') (PX := or_er σ6 (B I) (gE σ6) (md_pl σ6)) (d' := 20) (b' := 1) (by rw [e51]; exact vp_in_nI (by omega) (by decide)) (by
      rw [e51, cB, hσ6]
      exact X6_ordered_C hgr (by omega) (fun z' hz1 hz2 v τ hv hc h1 h2 => by
        have := rw_place (z := z') (d := 5) hK6 hI6 hv hc (σ := τ) (fun q q1 q2 q3 => h2 q q3)
        rw [hz1] at this
        exact this)) (by show 20 + 1 ≤ d; omega) (Nat.le_refl 1) (mg_kr0 fun σ7 h7 => ?_) (rd_kx hd2 (by decide) (fun kd pl τ ⟨r1, ⟨r2, r3⟩, v, r4, r5, r6, r7⟩ => ⟨ap + rd_tp S1, ?_, Or.inr (Or.inr ⟨c', S1, σ6, A, Q, P, L, B, M, C, I, v, hRR, htp3, hap2, hvc6, hG6, r4, r5, r6, r1, r7, rfl⟩)⟩))
    · obtain ⟨⟨k1, k2⟩, k3, k4⟩ := h7
      have hG7 : rd_G T n S1 σ7 A Q P L B M C I := hG6.cg (fun q _ => by rw [k1]) (fun q hq => k2 q (by omega))
      have e718 : σ7.1 18 - 1 = nI m := by rw [k1, e61 18 (by omega), e41 18 (by omega)]; exact e183
      refine mgread_262 ?_
      rw [e718]
      intro G9 g1 g2 _
      refine read_tail g1 g2.1 hd2 (fun Ge hWe hfe _ => ⟨_, hWe, hfe, Or.inr ⟨c', S1, A, Q, P, L, B, M, C, I, ?_, hRR, htp3, hap2, hvc6, ?_, ?_, ?_, ?_, ?_, ?_, ?_, ?_, ?_, ?_, ?_, ?_, ?_, ?_⟩⟩)
      all_goals clear hWe hfe
      · have e49 : (ml_sf σ7 49 (nI m)).1 49 = nI m := by rw [ml_sf_f, if_pos rfl]
        have e51' : (ml_sf σ7 49 (nI m)).1 51 = nI (B I) := by rw [ml_sf_f, if_neg (by omega)]; exact hG7.2.2.2.2.2.1
        unfold rd_v
        have h0m : (0 : Int32) ≤ nI m := show nI 0 ≤ nI m from nI_le (Nat.zero_le _) (by omega)
        rw [e49, if_pos h0m, e51']
      · exact hG7.cg (fun q hq => by rw [rd_t_1, if_neg (by omega), ml_sf_f, if_neg (by omega)]) (fun q hq => by rw [rd_t_2 (by omega) (by omega)]; rfl)
      · intro v hv
        rw [gE_cg (S := σ6) (fun q hq => by rw [rd_t_2 (by omega) (by omega)]; exact k2 q (by omega))]
        exact k4 v hv
      · obtain ⟨o, o1, o2, o3⟩ := k3
        refine ⟨o, ?_, fun i hi => ?_, o3⟩
        · rw [gE_cg (S := σ6) (fun q hq => by rw [rd_t_2 (by omega) (by omega)]; exact k2 q (by omega))]
          exact o1
        · rw [rd_t_2 (by omega) (by omega)]
          exact o2 i hi
      · rw [rd_t_1, if_neg (by omega), ml_sf_f, if_pos rfl, eS1m]
      · rw [rd_t_1, if_neg (by omega), ml_sf_f, if_neg (by omega), k1]; exact fs 3 (by omega)
      · rw [rd_t_1, if_neg (by omega), ml_sf_f, if_neg (by omega), k1]; exact fs 4 (by omega)
      · rw [rd_t_1, if_neg (by omega), ml_sf_f, if_neg (by omega), k1, e61 55 (by omega)]; exact e455
      · rw [rd_t_1, if_pos rfl]
      · rw [rd_t_1, if_neg (by omega), ml_sf_f, if_neg (by omega), k1]; exact fs 2 (by omega)
      · rw [rd_t_1, if_neg (by omega), ml_sf_f, if_neg (by omega), k1]; exact fs 72 (by omega)
      · rw [rd_t_1, if_neg (by omega), ml_sf_f, if_neg (by omega), k1]; exact fs 83 (by omega)
      · rw [rd_t_2 (by omega) (by omega)]
        show σ7.2 12 0 = 0
        rw [k2 12 (by omega)]; exact f12
      · intro j hj
        unfold rd_t md_fl
        rw [ml_saA_a, if_neg (by omega), ml_saA_a, if_pos rfl]
        exact if_pos hj
      · intro j hj
        unfold rd_t md_fl
        rw [ml_saA_a, if_pos rfl]
        exact if_pos hj
    · exact ⟨by rw [r2]; exact f49, by rw [r2]; exact fs 2 (by omega), by rw [r2]; exact fs 72 (by omega), by rw [r2]; exact fs 83 (by omega), by rw [r2, e61 55 (by omega)]; exact e455, by rw [r3 12 (by omega)]; exact f12⟩
  · refine Or.inr (Or.inl ⟨c', S1, hRR, r1, by rw [r2]; exact e1n, rfl, Or.inr (Or.inr ⟨htp3, hap2, ?_⟩)⟩)
    have := pi_none hF2 (m + 1) m (-1) (-1) σ2 0 0 0 0 r3 pi_same.rf (by omega) (by omega) hc0 (by omega) (by omega) (by omega) (Nat.zero_le _)
    rw [hvc] at this
    omega
end
