/-! putIn: the walk -/
set_option maxRecDepth 100000
section
variable {z : MZ} {T : Nat → Int32} {nn : Nat} {S0 : MS} {A Q P L : Nat → Nat}
/-- where the loops of putIn stand: at the expression e of the node n, the instance x -/
def pi_J (S0 σ S : MS) (f p' x c e : Nat) : Prop := pi_same S0 S ∧ pi_same σ S ∧ S.2 61 x = nI c ∧ ∃ x1 c1 s1 a1, pi_c S x1 c1 s1 a1 ∧ x < x1 ∧ c ≤ c1 ∧ a1 ≤ 6000 ∧ x1 + ts_e (ts one1 S0 f) S0 (p' - e) e ≤ 3200 ∧ c1 + ts_e (ts (kcn S0) S0 f) S0 (p' - e) e ≤ 3200 ∧ s1 + ts_e (ts (stn S0) S0 f) S0 (p' - e) e < 2 ^ 30
theorem putIn_vars {jm : MJ} {n x a : Nat} (hn60 : n < 60) (hx : x < 3200) (e12 : ∀ S, pi_same S0 S → S.2 12 n = nI (A n) ∧ S.2 12 (n + 1) = nI (A n + vcn S0 n)) (hA : A n + vcn S0 n ≤ 6000) (ha : a + vcn S0 n ≤ 6000) (R : MS → Prop) (K : ∀ S E, R S → ml_V z mX6_putIn jm 202 [(0, vR (some z.2.1)), (1, vI (nI n)), (4, vI (nI x))] [] S E jm.2.1) :
    ∀ m i S E, i + m = vcn S0 n → S.1 51 = nI (a + i) → pi_same S0 S → R (pi_vs (nI x) m i S) → ml_V z mX6_putIn jm 147 [(0, vR (some z.2.1)), (1, vI (nI n)), (4, vI (nI x)), (5, vI (nI (A n + i)))] [] S E jm.2.1 := by
  have cn : (nI n).toNatClampNeg = n := nI_clamp (by omega)
  have cn1 : (nI n + 1).toNatClampNeg = n + 1 := by rw [nI_1]; exact nI_clamp (by omega)
  have vn1 : vp_in (nI n + 1) 61 := by rw [nI_1]; exact vp_in_nI (by omega) (by decide)
  intro m
  induction m with
  | zero =>
    intro i S E hi h51 hs hR
    refine mbputIn_147 vn1 (fun _ => K _ _ hR) (fun q => absurd ?_ q)
    rw [cn1, (e12 S hs).2]
    exact nI_le (by omega) (by omega)
  | succ m ih =>
    intro i S E hi h51 hs hR
    refine mbputIn_147 vn1 (fun q => ?_) (fun _ => ?_)
    · rw [cn1, (e12 S hs).2] at q
      exact absurd ((nI_leI (by omega) (by omega)).1 q) (by omega)
    · refine mbputIn_160 (by rw [h51]; exact vp_in_nI (by omega) (by decide)) (vp_in_nI (by omega) (by decide)) ?_
      rw [cn, (e12 S hs).1, pk_sub (by omega), nI_1, show A n + i - A n = i by omega]
      refine ih (i + 1) (pi_v S (nI x) i) _ (by omega) ?_ (hs.tr pi_v_same) hR
      unfold pi_v
      rw [ml_sa_f, ml_sf_f, if_pos rfl, h51, nI_1]
      rfl
theorem pi_mem {jm : MJ} {n k x e : Nat} {S : MS} {E : GH → Prop} (he : e < 5000) (K : ∀ E, ml_V z mX6_putIn jm 357 [(0, vR (some z.2.1)), (1, vI (nI n)), (4, vI (nI x)), (5, vI (nI k)), (6, vI (nI e))] [] (pi_m S e) E jm.2.1) : ml_V z mX6_putIn jm 290 [(0, vR (some z.2.1)), (1, vI (nI n)), (4, vI (nI x)), (5, vI (nI k)), (6, vI (nI e))] [] S E jm.2.1 := by
  have ce : (nI e).toNatClampNeg = e := nI_clamp (by omega)
  have ve : vp_in (nI e) 66000 := vp_in_nI (by omega) (by decide)
  have go1 : ∀ E, (S.2 32 e = 24 ∨ S.2 32 e = 5 ∨ S.2 32 e = 25) → ml_V z mX6_putIn jm 325 [(0, vR (some z.2.1)), (1, vI (nI n)), (4, vI (nI x)), (5, vI (nI k)), (6, vI (nI e))] [] S E jm.2.1 := by
    intro E u
    have h6 : ¬ S.2 32 e = 6 := fun w => by rw [w] at u; revert u; decide
    have ee : pi_m S e = ml_sf S 53 (S.1 53 + 1) := by
      unfold pi_m nx_s
      rw [if_pos u, if_neg (by decide)]
      rfl
    rw [ee] at K
    refine mbputIn_325 (mbputIn_335 ve (fun _ => K _) (fun q => ?_))
    rw [ce] at q
    exact absurd q h6
  have go2 : ∀ E, ¬ (S.2 32 e = 24 ∨ S.2 32 e = 5 ∨ S.2 32 e = 25) → ml_V z mX6_putIn jm 335 [(0, vR (some z.2.1)), (1, vI (nI n)), (4, vI (nI x)), (5, vI (nI k)), (6, vI (nI e))] [] S E jm.2.1 := by
    intro E u
    refine mbputIn_335 ve (fun q => ?_) (fun q => ?_)
    · rw [ce] at q
      have ee : pi_m S e = S := by
        unfold pi_m nx_s
        rw [if_neg u, if_neg q, if_pos rfl]
      rw [ee] at K
      exact K _
    · rw [ce] at q
      have ee : pi_m S e = ml_sf S 53 (S.1 53 + 2) := by
        unfold pi_m nx_s
        rw [if_neg u, if_pos q, if_neg (by decide)]
        rfl
      rw [ee] at K
      exact mbputIn_347 (K _)
  refine mbputIn_290 ve (fun q => ?_) (fun q => ?_)
  · rw [ce] at q
    exact go1 _ (Or.inl q)
  · rw [ce] at q
    refine mbputIn_302 ve (fun q2 => ?_) (fun q2 => ?_)
    · rw [ce] at q2
      exact go1 _ (Or.inr (Or.inl q2))
    · rw [ce] at q2
      refine mbputIn_313 ve (fun q3 => ?_) (fun q3 => ?_)
      · rw [ce] at q3
        exact go2 _ (fun u => u.elim q (fun u => u.elim q2 q3))
      · rw [ce] at q3
        exact go1 _ (Or.inr (Or.inr q3))
theorem X6_putIn_C (hF : nfs T nn S0 A Q P L) : ∀ f D n out call σ x c s a, pi_same S0 σ → n < pr_N S0 → n < f → pi_c σ x c s a → x + ts one1 S0 f n ≤ 3200 → c + ts (kcn S0) S0 f n ≤ 3200 → s + ts (stn S0) S0 f n < 2 ^ 30 → a ≤ 6000 → f + 10 ≤ D →
    ml_C z mX6_putIn D 1 [vR (some z.2.1), vI (nI n), vI out, vI call] σ (fun v σ' _ => v = some (vI (nI x)) ∧ pi f n out call σ = some σ') (fun kd pl σ' => kd = 3 ∧ pl = σ.1 1 ∧ pi f n out call σ = none ∧ pi_same σ σ') := by
  intro f
  induction f with
  | zero => intro D n out call σ x c s a _ _ h; omega
  | succ f IH =>
    intro D n out call σ x c s a hs hn hnf hc hx hcc hss ha hD
    obtain ⟨i, o, hnode⟩ := hF.2.1 n hn
    obtain ⟨d1, d2, d3, d4, d5, d6, d7⟩ := nf_cnt hnode
    obtain ⟨l1, l2⟩ := nf_lohi hnode
    obtain ⟨⟨a1, a2, a3, a4, a5, a6⟩, ⟨b1, b2, b3, b4, b5, b6, b7, b8, b9, b10, b11, b12, b13, b14⟩, ⟨Pk, Lk, ⟨c1, c2, c3, c4⟩, c5, c6⟩, -⟩ := id hnode
    have hpos := ts_pos (S0 := S0) (g := one1) (f := f + 1) (n := n) (by omega)
    have hpos : 1 ≤ ts one1 S0 (f + 1) n := hpos
    rw [ts, l1, l2] at hx hcc hss
    have e1 : one1 n = 1 := rfl
    rw [e1] at hx
    have cn : (nI n).toNatClampNeg = n := nI_clamp (by omega)
    have cn1 : (nI n + 1).toNatClampNeg = n + 1 := by rw [nI_1]; exact nI_clamp (by omega)
    have cx : (nI x).toNatClampNeg = x := nI_clamp (by omega)
    have vn : vp_in (nI n) 60 := vp_in_nI (by omega) (by decide)
    have vn1 : vp_in (nI n) 61 := vp_in_nI (by omega) (by decide)
    have vn2 : vp_in (nI n + 1) 61 := by rw [nI_1]; exact vp_in_nI (by omega) (by decide)
    have vx : vp_in (nI x) 3200 := vp_in_nI (by omega) (by decide)
    have ex : jg_n (σ.1 50) = x := by rw [hc.1]; exact cx
    have e12 : ∀ S, pi_same S0 S → S.2 12 n = nI (A n) ∧ S.2 12 (n + 1) = nI (A n + vcn S0 n) := fun S h => by
      rw [h.2 12 (by omega)]
      exact ⟨d3, d4⟩
    have elo : pn_lo σ n = P n := by rw [← l1, pn_lo, pn_lo, hs.2 29 (by omega), hs.2 15 (by omega)]
    have ehi : pn_hi σ n = P (n + 1) := by rw [← l2, pn_hi, pn_hi, hs.2 27 (by omega), hs.2 15 (by omega)]
    have evc : jg_n (σ.2 12 (n + 1)) - jg_n (σ.2 12 n) = vcn S0 n := by rw [vcn, hs.2 12 (by omega)]
    generalize hRR : pi (f + 1) n out call σ = RR
    rw [pi, ex, elo, ehi, evc, hc.1] at hRR
    refine ml_C_of (by decide) rfl (Nat.le_of_ble_eq_true rfl) ?_
    refine mbputIn_0 (by rw [hc.1]; exact vx) ?_
    rw [hc.1]
    refine mbputIn_37 vx vn ?_
    rw [cx, cn]
    have sen := hs.tr (pi_en_same (S := σ) (n := n) (out := out) (call := call))
    have sen2 := pi_en_same (S := σ) (n := n) (out := out) (call := call)
    obtain ⟨g1, g2, g3, g4, g5, g6, g7, g8, g9, g10, g11, g12⟩ := pi_en_val (n := n) (out := out) (call := call) hc (by omega)
    rw [hs.2 16 (by omega), d2, nI_add] at g2
    rw [hs.2 17 (by omega), d1, nI_add] at g3
    have een : pi_e3 (pi_e2 (pi_e1 σ n out call) x n) n = pi_en σ n out call := by unfold pi_en; rw [ex]
    have ep1 : ml_sa (ml_sa (ml_sa (ml_sf σ 50 (nI x + 1)) 56 (nI x).toNatClampNeg (nI n)) 57 (nI x).toNatClampNeg out) 58 (nI x).toNatClampNeg call = pi_e1 σ n out call := by unfold pi_e1; rw [hc.1]; rfl
    rw [cx] at ep1
    rw [ep1]
    have ep2 : ml_sf (ml_sa (ml_sa (ml_sa (pi_e1 σ n out call) 59 x ((pi_e1 σ n out call).1 51)) 60 x ((pi_e1 σ n out call).1 52)) 61 x ((pi_e1 σ n out call).1 54)) 52 ((pi_e1 σ n out call).1 52 + (pi_e1 σ n out call).2 17 n) = pi_e2 (pi_e1 σ n out call) x n := rfl
    rw [ep2]
    have sp2 : pi_same σ (pi_e2 (pi_e1 σ n out call) x n) := by
      unfold pi_e2 pi_e1
      exact (((((((pi_same.sf (by decide)).tr (pi_same.sa (by decide))).tr (pi_same.sa (by decide))).tr (pi_same.sa (by decide))).tr (pi_same.sa (by decide))).tr (pi_same.sa (by decide))).tr (pi_same.sa (by decide))).tr (pi_same.sf (by decide))
    have f51 : (pi_e2 (pi_e1 σ n out call) x n).1 51 = nI a := by
      rw [← een] at g4
      exact g4
    have econ : ((pi_e2 (pi_e1 σ n out call) x n).1 51 + (pi_e2 (pi_e1 σ n out call) x n).2 12 (nI n + 1).toNatClampNeg) - (pi_e2 (pi_e1 σ n out call) x n).2 12 (nI n).toNatClampNeg = σ.1 51 + σ.2 12 (n + 1) - σ.2 12 n := by rw [f51, cn1, cn, sp2.2 12 (by omega), hc.2.2.2]
    refine mbputIn_85 vn vn2 vn1 (fun q => ?_) (fun q => ?_)
    · rw [econ] at q
      rw [if_pos q] at hRR
      have hle2 : a + vcn S0 n ≤ 6000 := by
        rw [hc.2.2.2, hs.2 12 (by omega), d3, d4, nI_add, pk_sub (by omega)] at q
        have := (nI_leI (a := a + (A n + vcn S0 n) - A n) (b := 6000) (by omega) (by omega)).1 q
        omega
      rw [cn]
      show ml_V z mX6_putIn _ 139 _ _ (pi_e3 (pi_e2 (pi_e1 σ n out call) x n) n) _ _
      rw [een]
      refine mbputIn_139 vn1 ?_
      rw [cn, (e12 _ sen).1]
      obtain ⟨v1, v2, v3, v4, v5⟩ := pi_vs_val (x := nI x) (a := a) (vcn S0 n) 0 (pi_en σ n out call) g4 (by omega)
      have sv := pi_vs_same (x := nI x) (vcn S0 n) 0 (pi_en σ n out call)
      have main : ∀ m k S E, k + m = Q (n + 1) → Q n ≤ k → pi_J S0 σ S f (P (n + 1)) x c (Pk k) → pi_es (pi f) x (P (n + 1) - Pk k) (Pk k) S = RR → ml_V z mX6_putIn (D, 1, (fun v σ' _ => v = some (vI (nI x)) ∧ RR = some σ'), fun kd pl σ' => kd = 3 ∧ pl = σ.1 1 ∧ RR = none ∧ pi_same σ σ') 210 [(0, vR (some z.2.1)), (1, vI (nI n)), (4, vI (nI x)), (5, vI (nI k))] [] S E 1 := by
        intro m
        induction m with
        | zero =>
          intro k S E hk hq hJ hR
          have ek : k = Q (n + 1) := by omega
          refine mbputIn_210 vn2 (fun _ => mbputIn_369 (fun G _ => ⟨rfl, ?_⟩)) (fun u => absurd ?_ u)
          · rw [← hR, ek, c2, Nat.sub_self]
            rfl
          · rw [cn1, hJ.1.2 15 (by omega), a6, ek]
            exact nI_le (Nat.le_refl _) (by omega)
        | succ m ih =>
          intro k S E hk hq hJ hR
          have ck : (nI k).toNatClampNeg = k := nI_clamp (by omega)
          have vk : vp_in (nI k) 17000 := vp_in_nI (by omega) (by decide)
          obtain ⟨c9, hW, -⟩ := c6 k hq (by omega)
          obtain ⟨m1, m2, m3, m4⟩ := c5 k hq (by omega)
          obtain ⟨w1, w2, w3, w4, w5, w6, w7, w8, w9, w10, w11, w12, w13⟩ := hW
          have w3 : S0.2 29 k = nI (Pk k) := w3
          have w4 : S0.2 27 k = nI (Pk (k + 1) - 1) := w4
          refine mbputIn_210 vn2 (fun u => ?_) (fun _ => ?_)
          · rw [cn1, hJ.1.2 15 (by omega), a6] at u
            exact absurd ((nI_leI (by omega) (by omega)).1 u) (by omega)
          refine mbputIn_223 vk ?_
          rw [ck, hJ.1.2 29 (by omega), w3]
          have inner : ∀ M e S E, e + M = Pk (k + 1) → Pk k ≤ e → pi_J S0 σ S f (P (n + 1)) x c e → pi_es (pi f) x (P (n + 1) - e) e S = RR → ml_V z mX6_putIn (D, 1, (fun v σ' _ => v = some (vI (nI x)) ∧ RR = some σ'), fun kd pl σ' => kd = 3 ∧ pl = σ.1 1 ∧ RR = none ∧ pi_same σ σ') 232 [(0, vR (some z.2.1)), (1, vI (nI n)), (4, vI (nI x)), (5, vI (nI k)), (6, vI (nI e))] [] S E 1 := by
            intro M
            induction M with
            | zero =>
              intro e S E he hlo hJ hR
              refine mbputIn_232 vk (fun _ => mbputIn_363 ?_) (fun u => absurd ?_ u)
              · rw [nI_1]
                have ee : e = Pk (k + 1) := by omega
                rw [ee] at hJ hR
                exact ih (k + 1) S _ (by omega) (by omega) hJ hR
              · rw [ck, hJ.1.2 27 (by omega), w4]
                exact nI_lt (by omega) (by omega)
            | succ M ihM =>
              intro e S E he hlo hJ hR
              have ce : (nI e).toNatClampNeg = e := nI_clamp (by omega)
              have ve : vp_in (nI e) 66000 := vp_in_nI (by omega) (by decide)
              obtain ⟨j1, j2, j3, x1, c1', s1, a1', k1, k2, k3, k4, k5, k6, k7⟩ := id hJ
              have eM : P (n + 1) - e = (P (n + 1) - (e + 1)) + 1 := by omega
              rw [eM, ts_e] at k5 k6 k7
              rw [eM, pi_es, j1.2 32 (by omega)] at hR
              refine mbputIn_232 vk (fun u => ?_) (fun _ => ?_)
              · rw [ck, j1.2 27 (by omega), w4] at u
                exact absurd ((nI_ltI (by omega) (by omega)).1 u) (by omega)
              refine mbputIn_244 ve (fun u => ?_) (fun u => ?_)
              · rw [ce, j1.2 32 (by omega)] at u
                rw [if_neg u] at hR k5 k6 k7
                rw [Nat.zero_add] at k5 k6 k7
                refine pi_mem (by omega) (fun E => mbputIn_357 ?_)
                rw [nI_1]
                refine ihM (e + 1) (pi_m S e) _ (by omega) (by omega) ⟨j1.tr pi_m_same, j2.tr pi_m_same, ?_, x1, c1', s1, a1', ?_, k2, k3, k4, k5, k6, k7⟩ hR
                · have e2 : (pi_m S e).2 = S.2 := by
                    unfold pi_m
                    split <;> rfl
                  rw [e2]
                  exact j3
                · have e1 : ∀ q, q ≠ 53 → (pi_m S e).1 q = S.1 q := fun q hq => by
                    unfold pi_m
                    split
                    · rfl
                    · rw [ml_sf_f, if_neg hq]
                  obtain ⟨z1, z2, z3, z4⟩ := k1
                  exact ⟨by rw [e1 50 (by omega)]; exact z1, by rw [e1 54 (by omega)]; exact z2, by rw [e1 52 (by omega)]; exact z3, by rw [e1 51 (by omega)]; exact z4⟩
              · rw [ce, j1.2 32 (by omega)] at u
                rw [if_pos u] at hR k5 k6 k7
                obtain ⟨t1, t2, g, y1, y2, y3⟩ := nfs_37 hF hn (e := e) (by omega) (by omega) u
                rw [y3] at k5 k6 k7
                have es33 : S.2 33 (nI e).toNatClampNeg = nI g := by rw [ce, j1.2 33 (by omega), y2]
                have e33 : jg_n (S.2 33 e) = g := by rw [j1.2 33 (by omega)]; exact y3
                rw [e33] at hR
                have hposg := ts_pos (S0 := S0) (g := one1) (f := f) (n := g) (by omega)
                have hposg : 1 ≤ ts one1 S0 f g := hposg
                have ec : (S.2 61 (nI x).toNatClampNeg + S.2 37 (nI e).toNatClampNeg) = nI (c + jg_n (S0.2 37 e)) := by
                  rw [cx, ce, j3, j1.2 37 (by omega)]
                  have h9 : nI c + nI (jg_n (S0.2 37 e)) = nI (c + jg_n (S0.2 37 e)) := nI_add _ _
                  rw [← t1] at h9
                  exact h9
                refine mbputIn_255 (P := fun v σ' _ => v = some (vI (nI x1)) ∧ pi f g (nI x) (nI e) S = some σ') (PX := fun kd pl σ' => kd = 3 ∧ pl = S.1 1 ∧ pi f g (nI x) (nI e) S = none ∧ pi_same S σ') (d' := D - 1) (b' := 1) vx ve (by rw [es33]; exact IH (D - 1) g (nI x) (nI e) S x1 c1' s1 a1' j1 (by omega) (by omega) k1 (by omega) (by omega) (by omega) k4 (by omega)) (by show D - 1 + 1 ≤ D; omega) (Nat.le_refl 1) (ml_krv fun S2 h2 => ?_) (fun kd pl σ' ⟨r1, r2, r3, r4⟩ => ⟨r1, by rw [r2, j2.1 1 (by omega)], by rw [← hR, r3], j2.tr r4⟩)
                rw [h2] at hR
                obtain ⟨B2, M2, C2, p1, p2, p3, p4, -⟩ := pi_full hF f g (nI x) (nI e) S S2 x1 c1' s1 a1' h2 j1 (by omega) (by omega) k1 (by omega) (by omega) (by omega) k4
                rw [ec]
                refine mbputIn_289 (vp_in_nI (by omega) (by decide)) ?_
                have ecl : (nI (c + jg_n (S0.2 37 e))).toNatClampNeg = c + jg_n (S0.2 37 e) := nI_clamp (by omega)
                rw [ecl]
                have eR : jg_n (S.2 61 x + S.2 37 e) = c + jg_n (S0.2 37 e) := by
                  rw [cx, ce] at ec
                  rw [ec]
                  exact ecl
                have hR' : pi_es (pi f) x (P (n + 1) - (e + 1)) (e + 1) (ml_sa S2 62 (jg_n (S.2 61 x + S.2 37 e)) (S.1 50)) = RR := hR
                rw [eR, k1.1] at hR'
                have ems : pi_m (ml_sa S2 62 (c + jg_n (S0.2 37 e)) (nI x1)) e = ml_sa S2 62 (c + jg_n (S0.2 37 e)) (nI x1) := by
                  unfold pi_m
                  have : (ml_sa S2 62 (c + jg_n (S0.2 37 e)) (nI x1)).2 32 e = 3 := by
                    rw [ml_sa_a, if_neg (by omega), p1.2 32 (by omega)]
                    exact u
                  rw [this, if_pos (show nx_s 3 = 0 from rfl)]
                refine pi_mem (by omega) (fun E => mbputIn_357 ?_)
                rw [nI_1, ems]
                have s62 : pi_same S2 (ml_sa S2 62 (c + jg_n (S0.2 37 e)) (nI x1)) := pi_same.sa (by decide)
                have sS2 : pi_same S S2 := ⟨fun q hq => by rw [p1.1 q hq, j1.1 q hq], fun q hq => by rw [p1.2 q hq, j1.2 q hq]⟩
                exact ihM (e + 1) _ _ (by omega) (by omega) ⟨p1.tr s62, (j2.tr sS2).tr s62, by rw [ml_sa_a, if_neg (by omega), p4.1 61 x (by omega) (by omega) k2]; exact j3, x1 + ts one1 S0 f g, c1' + ts (kcn S0) S0 f g, s1 + ts (stn S0) S0 f g, a1' + ts (vcn S0) S0 f g, p2, by omega, by omega, p3, by omega, by omega, by omega⟩ hR'
          exact inner (Pk (k + 1) - Pk k) (Pk k) S _ (by omega) (Nat.le_refl _) hJ hR
      have fin := putIn_vars (z := z) (jm := (D, 1, (fun v σ' _ => v = some (vI (nI x)) ∧ RR = some σ'), fun kd pl σ' => kd = 3 ∧ pl = σ.1 1 ∧ RR = none ∧ pi_same σ σ')) (n := n) (x := x) (a := a) b7 (by omega) e12 (by omega) hle2 (fun S => S = pi_vs (nI x) (vcn S0 n) 0 (pi_en σ n out call)) (fun S E hS => ?_) (vcn S0 n) 0 (pi_en σ n out call) (fun _ => True) (by omega) g4 sen rfl
      · exact fin
      · subst hS
        refine mbputIn_202 vn1 ?_
        rw [cn, (sen.tr sv).2 15 (by omega), a5]
        refine main (Q (n + 1) - Q n) (Q n) _ _ (by omega) (Nat.le_refl _) ⟨sen.tr sv, sen2.tr sv, by rw [v5 61 (by omega) (by omega)]; exact g10, x + 1, c + kcn S0 n, s + stn S0 n, a + vcn S0 n, ⟨by rw [v4 50 (by omega)]; exact g1, by rw [v4 54 (by omega)]; exact g2, by rw [v4 52 (by omega)]; exact g3, v1⟩, by omega, by omega, hle2, by rw [c1]; omega, by rw [c1]; omega, by rw [c1]; omega⟩ (by rw [c1]; exact hRR)
    · rw [econ] at q
      rw [if_neg q] at hRR
      rw [cn]
      show ml_V z mX6_putIn _ 126 _ _ (pi_e3 (pi_e2 (pi_e1 σ n out call) x n) n) _ _
      rw [een]
      refine mbputIn_126 (Nat.le_refl 1) (fun q => ?_)
      refine mbputIn_129 rfl (X23_init_C (Nat.le_refl 4)) (fun G g => g) (by show 4 + 1 ≤ D; omega) (Nat.zero_le _) ?_
      refine mbputIn_138 rfl (fun G g => g.1) (fun G g => ?_)
      rw [g.2.1, g.2.2]
      exact ⟨rfl, by rw [sen2.1 1 (by omega)], hRR.symm, sen2⟩
end
