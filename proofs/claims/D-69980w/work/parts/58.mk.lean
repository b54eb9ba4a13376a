/-! make, two of the reference -/
set_option maxRecDepth 100000
theorem lx_nz_sa {σ : MS} {k j : Nat} {v : Int32} : lx_nz (ml_sa σ k j v) = ml_sa (lx_nz σ) k j v := rfl
theorem lx_nz_sf {σ : MS} {k : Nat} {v : Int32} (hk : ¬ (5 ≤ k ∧ k ≤ 9)) : lx_nz (ml_sf σ k v) = ml_sf (lx_nz σ) k v := by
  refine Prod.ext (funext fun q => ?_) rfl
  show (if 5 ≤ q ∧ q ≤ 9 then 0 else if q = k then v else σ.1 q) = if q = k then v else if 5 ≤ q ∧ q ≤ 9 then 0 else σ.1 q
  repeat' split
  all_goals first | rfl | omega
theorem lx_nz_kids {p : Nat} : ∀ (ks : List Nat) (σ : MS), lx_nz (ks.foldl (pm_kid p) σ) = ks.foldl (pm_kid p) (lx_nz σ)
  | [], _ => rfl
  | k :: ks, σ => lx_nz_kids ks (pm_kid p σ k)
theorem lx_nz_mk {σ : MS} {p : Nat} {kind what : Int32} {ks : List Nat} : lx_nz (pm_mk σ p kind what ks) = pm_mk (lx_nz σ) p kind what ks := by
  unfold pm_mk
  rw [lx_nz_kids]
  congr 1
  unfold pm_0
  rw [lx_nz_sa, lx_nz_sa, lx_nz_sa, lx_nz_sa, lx_nz_sa, lx_nz_sa, lx_nz_sa, lx_nz_sf (by omega)]
theorem lx_nz_fin {σ : MS} {p N : Nat} {kind : Int32} : lx_nz (pm_fin N kind p σ) = pm_fin N kind p (lx_nz σ) := by
  unfold pm_fin
  split
  · rfl
  · split <;> rfl
theorem md_mk_V {z : MZ} {jm : MJ} {p : Nat} {x1 : Int32} (hp : p < 66000) (hd : 1 ≤ jm.1) : ∀ (ks : List Nat) (σ : MS) (x : Int32) (E : GH → Prop), md_ch (σ.2 35) x ks → (∀ k ∈ ks, k < p) → (∀ E, ml_V z mX6_make jm 134 [(0, vR (some z.2.1)), (1, vI x1), (5, vI (nI p))] [] (ks.foldl (pm_kid p) σ) E jm.2.1) →
    ml_V z mX6_make jm 74 [(0, vR (some z.2.1)), (1, vI x1), (5, vI (nI p)), (6, vI x)] [] σ E jm.2.1
  | [], σ, x, E, h, _, K => mbmake_74 (fun _ => K _) (fun q => absurd h q)
  | k :: ks, σ, x, E, h, hk, K => by
    obtain ⟨rfl, h⟩ := h
    have hkp := hk k List.mem_cons_self
    refine mbmake_74 (fun q => absurd q (nI_pos (by omega))) (fun _ => ?_)
    refine mbmake_79 (vp_in_nI hp (by decide)) (vp_in_nI (by omega) (by decide)) hd ?_
    refine mbmake_121 (vp_in_nI hp (by decide)) (vp_in_nI (by omega) (by decide)) ?_
    rw [nI_clamp (show p < 2 ^ 31 by omega), nI_clamp (show k < 2 ^ 31 by omega)]
    refine md_mk_V hp hd ks (pm_kid p σ k) _ _ ?_ (fun q hq => hk q (List.mem_cons_of_mem _ hq)) K
    exact md_ch_cg ks _ (fun q _ => (pm_kid_2 (Or.inl ⟨by omega, by omega⟩)).symm) h
theorem X6_make_C {z : MZ} {d n c N p : Nat} {σ : MS} {kind what x : Int32} {ks : List Nat} (h : lx_I n c σ) (hp : σ.1 40 = nI p) (hp2 : p < 66000) (hN : σ.1 18 = nI N) (hN2 : N < 60) (hx : x = pm_first ks) (hch : md_ch (σ.2 35) x ks) (hks : ∀ k ∈ ks, k < p) (hd : 5 ≤ d) :
    ml_C z mX6_make d 1 [vR (some z.2.1), vI kind, vI what, vI x, vI 1] σ (fun v σ' _ => (pm_mk σ p kind what ks).2 39 p ≤ 200 ∧ v = some (vI (nI p)) ∧ σ' = pm_fin N kind p (pm_mk σ p kind what ks)) (fun kd pl σ' => ¬ (pm_mk σ p kind what ks).2 39 p ≤ 200 ∧ kd = 3 ∧ pl = nI c ∧ lx_nz σ' = lx_nz (pm_mk σ p kind what ks)) := by
  subst hx
  refine ml_C_of (by decide) rfl (Nat.le_of_ble_eq_true rfl) ?_
  have hcl : (nI p).toNatClampNeg = p := nI_clamp (by omega)
  have hclN : (nI N).toNatClampNeg = N := nI_clamp (by omega)
  refine mbmake_0 (by rw [hp]; exact vp_in_nI hp2 (by decide)) ?_
  rw [hp, hcl, nI_1]
  refine mbmake_37 (vp_in_nI hp2 (by decide)) ?_
  rw [hcl]
  refine mbmake_71 ?_
  refine md_mk_V hp2 (by show 1 ≤ d; omega) ks (pm_0 σ p kind what (pm_first ks)) _ _ ?_ hks (fun E => ?_)
  · exact md_ch_cg ks _ (fun q hq => (pm_0_2 (Or.inl (by have := hks q hq; omega))).symm) hch
  have e18 : (pm_mk σ p kind what ks).1 18 = nI N := by rw [pm_mk_1, if_neg (by omega), hN]
  show ml_V z mX6_make _ 134 [(0, vR (some z.2.1)), (1, vI kind), (5, vI (nI p))] [] (pm_mk σ p kind what ks) E _
  have fin : ∀ E σ', σ' = pm_fin N kind p (pm_mk σ p kind what ks) → (pm_mk σ p kind what ks).2 39 p ≤ 200 → ml_V z mX6_make (d, 1, (fun v σ' _ => (pm_mk σ p kind what ks).2 39 p ≤ 200 ∧ v = some (vI (nI p)) ∧ σ' = pm_fin N kind p (pm_mk σ p kind what ks)), fun kd pl σ' => ¬ (pm_mk σ p kind what ks).2 39 p ≤ 200 ∧ kd = 3 ∧ pl = nI c ∧ lx_nz σ' = lx_nz (pm_mk σ p kind what ks)) 238 [(5, vI (nI p))] [] σ' E 1 :=
    fun E σ' e h2 => mbmake_238 (fun G _ => ⟨h2, rfl, e⟩)
  refine mbmake_134 (vp_in_nI hp2 (by decide)) (fun q => ?_) (fun q => ?_)
  · rw [hcl] at q
    have mem : ∀ E, kind = 24 ∨ kind = 5 ∨ kind = 25 → ml_V z mX6_make (d, 1, (fun v σ' _ => (pm_mk σ p kind what ks).2 39 p ≤ 200 ∧ v = some (vI (nI p)) ∧ σ' = pm_fin N kind p (pm_mk σ p kind what ks)), fun kd pl σ' => ¬ (pm_mk σ p kind what ks).2 39 p ≤ 200 ∧ kd = 3 ∧ pl = nI c ∧ lx_nz σ' = lx_nz (pm_mk σ p kind what ks)) 182 [(0, vR (some z.2.1)), (1, vI kind), (5, vI (nI p))] [] (pm_mk σ p kind what ks) E 1 := by
      intro E hk
      refine mbmake_182 (by rw [e18]; exact vp_in_nI hN2 (by decide)) (vp_in_nI hp2 (by decide)) ?_
      rw [e18, hcl, hclN]
      refine mbmake_203 (fun _ => fin _ _ ?_ q) (fun q6 => ?_)
      · rw [pm_fin, if_pos hk]
      · rw [q6] at hk
        exact absurd hk (by decide)
    refine mbmake_165 (fun q1 => mem _ (Or.inl q1)) (fun q1 => ?_)
    refine mbmake_171 (fun q2 => mem _ (Or.inr (Or.inl q2))) (fun q2 => ?_)
    refine mbmake_176 (fun q3 => ?_) (fun q3 => mem _ (Or.inr (Or.inr q3)))
    have hk : ¬ (kind = 24 ∨ kind = 5 ∨ kind = 25) := by
      rintro (u | u | u)
      · exact q1 u
      · exact q2 u
      · exact q3 u
    refine mbmake_203 (fun q4 => fin _ _ ?_ q) (fun q4 => ?_)
    · rw [pm_fin, if_neg hk, if_neg q4]
    · refine mbmake_209 (by rw [e18]; exact vp_in_nI hN2 (by decide)) (vp_in_nI hp2 (by decide)) ?_
      rw [hcl]
      refine fin _ _ ?_ q
      rw [pm_fin, if_neg hk, if_pos q4]
      rw [e18, hclN]
      try rfl
  · rw [hcl] at q
    have hI : lx_I n c (pm_mk σ p kind what ks) := h.cg (fun k hk => by rw [pm_mk_1, if_neg (by omega)]) (funext fun j => pm_mk_2 (Or.inr (by omega)))
    refine mbmake_147 (X6_peek_C hI (Nat.le_refl 2)) (by show 2 + 1 ≤ d; omega) (Nat.zero_le _) (ml_kr fun v σ' g => ?_) ml_no
    obtain ⟨rfl, h1, h2⟩ := g
    refine mbmake_151 (Nat.le_refl 1) (fun q1 => ?_)
    refine mbmake_155 rfl (X23_init_C (Nat.le_refl 4)) (fun G g => g) hd (Nat.zero_le _) ?_
    exact mbmake_164 rfl (fun G g => g.1) (fun G g => ⟨q, g.2.1, by rw [g.2.2, h2.2.2.2.1], h1⟩)
theorem ps_make {z : MZ} {d n c p : Nat} {S σ : MS} {kind what x : Int32} {ks : List Nat} {r : PE} (h : ps n c S σ) (hp : S.1 40 = nI p) (hp2 : p < 66000) (hV : pe_V n S) (hx : x = pm_first ks) (hch : md_ch (S.2 35) (pm_first ks) ks) (hks : ∀ k ∈ ks, k < p) (hr : pr_make S kind what ks c = some r) (hd : 5 ≤ d) :
    ml_C z mX6_make d 1 [vR (some z.2.1), vI kind, vI what, vI x, vI 1] σ (fun v σ' _ => pq_N n r v σ') (pq_X S r) := by
  have hN := hV.N
  have e40 : σ.1 40 = nI p := by rw [h.s1 40 (by omega)]; exact hp
  have e18 : σ.1 18 = nI (pr_N S) := by rw [h.s1 18 (by omega)]; exact hN.1
  have ep : pr_p S = p := by rw [pr_p, hp, nI_clamp (by omega)]
  have eS : ∀ j, (pm_mk σ p kind what ks).2 39 j = (pm_mk S p kind what ks).2 39 j := fun j => by
    rw [← h.2, ← lx_nz_mk]
    rfl
  unfold pr_make at hr
  rw [ep] at hr
  refine (X6_make_C h.1 e40 hp2 e18 hN.2.1 hx (by rw [hx, h.s2]; exact hch) hks hd).mono ?_ ?_
  · rintro v σ' - ⟨a1, rfl, rfl⟩
    rw [eS] at a1
    rw [if_pos a1] at hr
    refine ⟨p, c, ?_, rfl, ?_⟩
    · rw [lx_nz_fin, lx_nz_mk, h.2]
      exact (Option.some.inj hr).symm
    · exact h.1.cg (fun k hk => by rw [pm_fin_1, pm_mk_1, if_neg (by omega)]) (funext fun j => by rw [pm_fin_2 ⟨by omega, by omega⟩, pm_mk_2 (Or.inr (by omega))])
  · rintro kd pl σ' ⟨a1, rfl, rfl, a2⟩
    rw [eS] at a1
    rw [if_neg a1] at hr
    refine ⟨c, (Option.some.inj hr).symm, rfl, ?_⟩
    rw [a2, lx_nz_mk, h.2]
    exact ⟨⟨fun k hk => by rw [pm_mk_1, if_neg (by omega)], pm_mk_2 (Or.inr (by omega))⟩, fun k hk => funext fun j => pm_mk_2 (Or.inr (by omega))⟩
theorem ps_sa {n c k j : Nat} {S σ : MS} {v : Int32} (h : ps n c S σ) (hk : k ≠ 0) : ps n c (ml_sa S k j v) (ml_sa σ k j v) :=
  ⟨h.1.cg (fun _ _ => rfl) (funext fun i => by rw [ml_sa_a, if_neg (Ne.symm hk)]), by rw [lx_nz_sa, h.2]⟩
theorem ps_two {z : MZ} {d n c a b : Nat} {S σ : MS} {kind : Int32} {r : PE} (h : ps n c S σ) (hp : S.1 40 = nI (b + 1)) (hp2 : b < 65990) (hV : pe_V n S) (hab : a < b) (hb : S.2 35 b = -1) (hr : pr_two S kind a b c = some r) (hd : 6 ≤ d) :
    ml_C z mX6_two d 1 [vR (some z.2.1), vI kind, vI (nI a), vI (nI b)] σ (fun v σ' _ => pq_N n r v σ') (pq_X S r) := by
  refine ml_C_of (by decide) rfl (Nat.le_of_ble_eq_true rfl) ?_
  have hca : (nI a).toNatClampNeg = a := nI_clamp (by omega)
  have sb : pe_same S (ml_sa S 35 a (nI b)) := ⟨fun k _ => rfl, fun k _ _ h3 => by
    funext j
    rw [ml_sa_a, if_neg (by omega)]⟩
  have hch : md_ch ((ml_sa S 35 a (nI b)).2 35) (pm_first [a, b]) [a, b] := by
    refine ⟨rfl, ?_⟩
    rw [ml_sa_a, if_pos rfl, if_pos rfl]
    refine ⟨rfl, ?_⟩
    rw [ml_sa_a, if_pos rfl, if_neg (by omega), hb]
    show (-1 : Int32) < 0
    decide
  refine mbtwo_0 (P := fun v σ' _ => pq_N n r v σ') (PX := pq_X (ml_sa S 35 a (nI b)) r) (d' := 5) (b' := 1) (vp_in_nI (by omega) (by decide)) ?_ hd (Nat.le_refl 1) (ml_kr fun v σ' g => ?_) ?_
  · rw [hca]
    exact ps_make (ps_sa h (by omega)) hp (by omega) (hV.same sb) rfl hch (fun k hk => by
      simp only [List.mem_cons, List.not_mem_nil, or_false] at hk
      omega) hr (Nat.le_refl 5)
  · obtain ⟨e, c', g1, rfl, g2⟩ := g
    exact mbtwo_15 (fun G _ => ⟨e, c', g1, rfl, g2⟩)
  · rintro kd pl σ' ⟨c', g1, g2, g3⟩
    exact ⟨c', g1, g2, sb.px.tr g3⟩
