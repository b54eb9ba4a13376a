/-! work of the reference: the value of an expression at an instant -/
set_option maxRecDepth 100000
/-- the place of the memory of e in the instance x -/
def wv_at (σ : MS) (x e : Nat) : Int32 := σ.2 60 x + σ.2 37 e
def wv_k (σ : MS) (e i : Nat) : Nat := (kls σ e).getD i 0
/-- the value of e by those of its parts -/
def wv (σ : MS) (x e : Nat) : Int32 :=
  if σ.2 32 e = 0 ∨ σ.2 32 e = 1 then σ.2 33 e
  else if σ.2 32 e = 2 then σ.2 74 (σ.2 59 x + σ.2 33 e).toNatClampNeg
  else if σ.2 32 e = 3 then σ.2 74 (pcs_o σ x e).toNatClampNeg
  else if σ.2 32 e = 4 then (if σ.2 77 (wv_k σ e 0) = 1 then σ.2 77 (wv_k σ e 1) else σ.2 77 (wv_k σ e 2))
  else if σ.2 32 e = 5 then (if σ.2 75 (wv_at σ x e).toNatClampNeg = 1 then σ.2 77 (wv_k σ e 1) else σ.2 77 (wv_k σ e 0))
  else if σ.2 32 e = 6 then (if σ.2 75 (wv_at σ x e + 1).toNatClampNeg = 1 then σ.2 75 (wv_at σ x e).toNatClampNeg else σ.2 77 (wv_k σ e 0))
  else if σ.2 32 e = 22 then -(σ.2 77 (wv_k σ e 0))
  else if σ.2 32 e = 23 then 1 - σ.2 77 (wv_k σ e 0)
  else if σ.2 32 e = 24 then σ.2 75 (wv_at σ x e).toNatClampNeg
  else if σ.2 32 e = 25 then (if md_pr σ 60 x (σ.2 43 (wv_k σ e 0)) = true then σ.2 77 (wv_k σ e 0) else σ.2 75 (wv_at σ x e).toNatClampNeg)
  else if σ.2 32 e = 26 then σ.2 77 (wv_k σ e 0)
  else md_jn (σ.2 32 e) (σ.2 77 (wv_k σ e 0)) (σ.2 77 (wv_k σ e 1))
section
variable {z : MZ} {T : Nat → Int32} {n : Nat} {S : MS} {A Q P L B M C : Nat → Nat} {I : Nat}
/-- a clock of the instance x has a chain outward -/
theorem rw_po (h : rw_K T n S A Q P L) (hI : rw_I S I B M C) {σ : MS} (hS : ∀ q, q ≤ 64 → σ.2 q = S.2 q) : ∀ f x c m, pr_N S ≤ m + f → x < I → S.2 56 x = nI m → m < pr_N S → (c = -1 ∨ ∃ w, w < 2 ^ 30 ∧ c = nI w ∧ w / 2 < vcn S m) → md_po σ I f x c := by
  have hN := rw_N h
  intro f
  induction f with
  | zero => intro x c m hx _ _ hm; omega
  | succ f ih =>
    intro x c m hx hxI h56 hm hc
    rw [md_po]
    by_cases u : c = -1
    · rw [if_pos u, hS 57 (by omega), hS 43 (by omega), hS 58 (by omega)]
      by_cases w : S.2 57 x < 0
      · exact Or.inl w
      · right
        have h0 : 0 < x := by
          rcases Nat.eq_zero_or_pos x with u | u
          · rw [u, hI.2.2.2.2.1] at w
            exact absurd (by decide) w
          · exact u
        obtain ⟨y, e, m', y1, y2, y3, y4, y5, y6, y7, y8, y9, y10⟩ := hI.2.2.2.1 x h0 hxI
        obtain ⟨l1, l2⟩ := rw_lohi h y6
        obtain ⟨i, o, hn⟩ := h.1.2.1 m' y6
        have hp : P (m' + 1) ≤ 5000 := hn.2.1.2.2.2.2.2.2.2.1
        have hI32 : I ≤ 3200 := hI.1.2.2.2.2.2.2.1
        rw [l1] at y7
        rw [l2] at y8
        obtain ⟨g, g1, g2, -⟩ := nf_callee hn y7 y8 y9
        rw [h56, g2] at y10
        have em : m = g := (nI_eq (by omega) (by omega)).1 y10
        rw [y3, y4, nI_clamp (by omega), nI_clamp (by omega)]
        refine ih y _ m' (by omega) (by omega) y5 y6 ?_
        rcases rw_fq h (m := m') (e := e) y6 (by omega) (by omega) with r | ⟨w, w1, w2, w3, -⟩
        · exact Or.inl r
        · exact Or.inr ⟨w, w1, w2, w3⟩
    · rw [if_neg u]
      obtain ⟨w, w1, w2, w3⟩ := hc.resolve_left u
      obtain ⟨b1, b2, -⟩ := rw_B hI hxI h56 hm hN
      have hB6 : B I ≤ 6000 := hI.1.2.2.2.1
      rw [hS 59 (by omega), b1, w2, pk_d2 (by omega), nI_add]
      exact vp_in_nI (by omega) (by decide)
/-- is a clock of the instance x there -/
theorem rw_present (h : rw_K T n S A Q P L) (hI : rw_I S I B M C) {σ : MS} (hS : ∀ q, q ≤ 64 → σ.2 q = S.2 q) {x m d : Nat} {c : Int32} (hx : x < I) (h56 : S.2 56 x = nI m) (hm : m < pr_N S) (hc : c = -1 ∨ ∃ w, w < 2 ^ 30 ∧ c = nI w ∧ w / 2 < vcn S m) (hd : 59 ≤ d) : ml_C z mX6_present d 0 [vR (some z.2.1), vI (nI x), vI c] σ (fun u σ' _ => u = some (vI (if md_pr σ 60 x c = true then 1 else 0)) ∧ σ' = σ) (fun _ _ _ => False) := by
  refine X6_present_C (n := I) hI.1.2.2.2.2.2.2.1 ?_ 60 d x c (rw_po h hI hS 60 x c m (by have := rw_N h; omega) hx h56 hm hc) hx (by omega)
  intro y hy
  have := rw_in hI h y hy
  rw [hS 57 (by omega), hS 58 (by omega)]
  exact this
/-- the memory of an expression -/
theorem rw_mem (h : rw_K T n S A Q P L) (hI : rw_I S I B M C) {x m e : Nat} (hx : x < I) (h56 : S.2 56 x = nI m) (hm : m < pr_N S) (h1 : P m ≤ e) (h2 : e < P (m + 1)) (h3 : nx_s (S.2 32 e) ≠ 0) : ∃ t, S.2 60 x + S.2 37 e = nI (M x + t) ∧ t = nx_t nx_s (S.2 32) (P m) (e - P m) ∧ t + nx_s (S.2 32 e) ≤ stn S m ∧ M x + stn S m ≤ M I := by
  have hN := rw_N h
  obtain ⟨i, o, hn⟩ := h.1.2.1 m hm
  obtain ⟨d1, d2, d3, d4, d5, d6, d7⟩ := nf_cnt hn
  obtain ⟨-, -, b3, b4⟩ := rw_B hI hx h56 hm hN
  have e37 := (hn.2.2.2.1 e h1 h2).2.1.1 h3
  have hmm := nx_t_mono (g := nx_s) (B := S.2 32) (p := P m) (e - P m + 1) (P (m + 1) - P m - (e - P m + 1))
  rw [show e - P m + 1 + (P (m + 1) - P m - (e - P m + 1)) = P (m + 1) - P m by omega, nx_t, show P m + (e - P m) = e by omega] at hmm
  exact ⟨_, by rw [b3, e37, nI_add], rfl, by omega, b4⟩
theorem X6_work_C (h : rw_K T n S A Q P L) (hI : rw_I S I B M C) {σ : MS} (hS : ∀ q, q ≤ 64 → σ.2 q = S.2 q) {x m e d : Nat} (hx : x < I) (h56 : S.2 56 x = nI m) (hm : m < pr_N S) (h1 : P m ≤ e) (h2 : e < P (m + 1)) (hd : 61 ≤ d) : ml_C z mX6_work d 0 [vR (some z.2.1), vI (nI x), vI (nI e)] σ (fun u σ' _ => u = none ∧ σ' = ml_sa σ 77 e (wv σ x e)) (fun _ _ _ => False) := by
  have hN := rw_N h
  have hI32 : I ≤ 3200 := hI.1.2.2.2.2.2.2.1
  have hM6 : M I ≤ 6000 := hI.1.2.2.2.2.1
  have hB6 : B I ≤ 6000 := hI.1.2.2.2.1
  obtain ⟨i, o, hn⟩ := h.1.2.1 m hm
  obtain ⟨v1, v2, v3, v4⟩ := rw_av h hm
  obtain ⟨b1, b2, -⟩ := rw_B hI hx h56 hm hN
  have hp5 : P (m + 1) ≤ 5000 := hn.2.1.2.2.2.2.2.2.2.1
  obtain ⟨s1, s2, s3, s4⟩ := nf_call hn h1 h2
  have hkm := (pw_k_mem _ _ s4).2
  have ce : (nI e).toNatClampNeg = e := nI_clamp (by omega)
  have cx : (nI x).toNatClampNeg = x := nI_clamp (by omega)
  have ve : vp_in (nI e) 66000 := vp_in_nI (by omega) (by decide)
  have vx : vp_in (nI x) 3200 := vp_in_nI (by omega) (by decide)
  have hkls : kls σ e = kls S e := by
    unfold kls
    rw [hS 34 (by omega), hS 35 (by omega)]
  have e32 : σ.2 32 e = S.2 32 e := by rw [hS 32 (by omega)]
  -- the parts
  have kl3 : σ.2 32 e = 4 → ∃ k0 k1 k2, kls σ e = [k0, k1, k2] := fun q => by
    rw [e32] at q
    rw [hkls]
    rcases s1 with ⟨u, -⟩ | ⟨u, -⟩ | ⟨u, -⟩ | ⟨u, -⟩ | ⟨u, m⟩ | ⟨u, r, m⟩ | ⟨u, r, m⟩ | ⟨u, m, -⟩
    · rw [u] at q; exact absurd q (by decide)
    · rw [u] at q; exact absurd q (by decide)
    · rw [u] at q; exact absurd q (by decide)
    · rw [u] at q; exact absurd q (by decide)
    · generalize kls S e = ks at m
      match ks, m with
      | [a, b, c], _ => exact ⟨a, b, c, rfl⟩
    · rw [q] at u; exact absurd u (by decide)
    · rw [q] at u; exact absurd u (by decide)
    · rw [u] at q; exact absurd q (by decide)
  have kl2 : 5 ≤ σ.2 32 e ∧ σ.2 32 e ≤ 21 → ∃ k0 k1, kls σ e = [k0, k1] := fun q => by
    rw [e32] at q
    rw [hkls]
    rcases s1 with ⟨u, -⟩ | ⟨u, -⟩ | ⟨u, -⟩ | ⟨u, -⟩ | ⟨u, m⟩ | ⟨u, r, m⟩ | ⟨u, r, m⟩ | ⟨u, m, -⟩
    · rw [u] at q; exact absurd q (by decide)
    · rw [u] at q; exact absurd q (by decide)
    · rw [u] at q; exact absurd q (by decide)
    · rw [u] at q; exact absurd q (by decide)
    · rw [u] at q; exact absurd q (by decide)
    · generalize kls S e = ks at m
      match ks, m with
      | [a, b], _ => exact ⟨a, b, rfl⟩
    · exact absurd (Int32.le_trans u q.2) (by decide)
    · rw [u] at q; exact absurd q (by decide)
  have kl1 : 22 ≤ σ.2 32 e ∧ σ.2 32 e ≤ 26 → ∃ k0, kls σ e = [k0] := fun q => by
    rw [e32] at q
    rw [hkls]
    rcases s1 with ⟨u, -⟩ | ⟨u, -⟩ | ⟨u, -⟩ | ⟨u, -⟩ | ⟨u, m⟩ | ⟨u, r, m⟩ | ⟨u, r, m⟩ | ⟨u, m, -⟩
    · rw [u] at q; exact absurd q (by decide)
    · rw [u] at q; exact absurd q (by decide)
    · rw [u] at q; exact absurd q (by decide)
    · rw [u] at q; exact absurd q (by decide)
    · rw [u] at q; exact absurd q (by decide)
    · exact absurd (Int32.le_trans q.1 r) (by decide)
    · generalize kls S e = ks at m
      match ks, m with
      | [a], _ => exact ⟨a, rfl⟩
    · generalize kls S e = ks at m
      match ks, m with
      | [a], _ => exact ⟨a, rfl⟩
  rw [← hkls] at s3 hkm
  have s3 : md_ch (σ.2 35) (σ.2 34 e) (kls σ e) := by rw [hS 35 (by omega), hS 34 (by omega)]; exact s3
  have hk0 : ∀ k ∈ kls σ e, k < 5000 ∧ P m ≤ k := fun k hk => by have := hkm k hk; omega
  refine ml_C_of (by decide) rfl (Nat.le_of_ble_eq_true rfl) ?_
  generalize hW : wv σ x e = W
  unfold wv wv_k at hW
  have fin : ∀ E, ml_V z mX6_work (d, 0, (fun u σ' _ => u = none ∧ σ' = ml_sa σ 77 e W), fun _ _ _ => False) 477 [] [] (ml_sa σ 77 e W) E 0 := fun E => mbwork_477 (fun G _ => ⟨rfl, rfl⟩)
  have fe : ∀ v E, v = W → ml_V z mX6_work (d, 0, (fun u σ' _ => u = none ∧ σ' = ml_sa σ 77 e W), fun _ _ _ => False) 477 [] [] (ml_sa σ 77 (nI e).toNatClampNeg v) E 0 := fun v E hv => by
    rw [ce, hv]
    exact fin E
  have bin : ∀ s0 E, (7 ≤ σ.2 32 e ∧ σ.2 32 e ≤ 21) → (∀ k0 k1, kls σ e = [k0, k1] → s0 = nI k1) → ml_V z mX6_work (d, 0, (fun u σ' _ => u = none ∧ σ' = ml_sa σ 77 e W), fun _ _ _ => False) 449 [(0, vR (some z.2.1)), (2, vI (nI e)), (3, vI (σ.2 34 e)), (4, vI s0)] [] σ E 0 := by
    intro s0 E hq hs0
    obtain ⟨k0, k1, hk⟩ := kl2 ⟨Int32.le_trans (by decide) hq.1, hq.2⟩
    have hs0 := hs0 k0 k1 hk
    rw [hk] at s3 hk0 hW
    have a0 := hk0 k0 List.mem_cons_self
    have a1 := hk0 k1 (List.mem_cons_of_mem _ List.mem_cons_self)
    have c0 : (nI k0).toNatClampNeg = k0 := nI_clamp (by omega)
    have c1 : (nI k1).toNatClampNeg = k1 := nI_clamp (by omega)
    have g0 : [k0, k1].getD 0 0 = k0 := rfl
    have g1 : [k0, k1].getD 1 0 = k1 := rfl
    rw [g0, g1] at hW
    have hWj : md_jn (σ.2 32 e) (σ.2 77 k0) (σ.2 77 k1) = W := by
      rw [← hW]
      have nn : ∀ v : Int32, (v < 7 ∨ 21 < v) → σ.2 32 e ≠ v := fun v hv u => by
        rw [u] at hq
        rcases hv with hv | hv
        · exact absurd hq.1 (Int32.not_le.2 hv)
        · exact absurd hq.2 (Int32.not_le.2 hv)
      rw [if_neg (fun u => u.elim (nn 0 (by decide)) (nn 1 (by decide))), if_neg (nn 2 (by decide)), if_neg (nn 3 (by decide)), if_neg (nn 4 (by decide)), if_neg (nn 5 (by decide)), if_neg (nn 6 (by decide)), if_neg (nn 22 (by decide)), if_neg (nn 23 (by decide)), if_neg (nn 24 (by decide)), if_neg (nn 25 (by decide)), if_neg (nn 26 (by decide))]
    rw [s3.1, hs0]
    refine mbwork_449 (P := fun u σ' _ => u = some (vI (md_jn (σ.2 32 e) (σ.2 77 k0) (σ.2 77 k1))) ∧ σ' = σ) (PX := fun _ _ _ => False) (d' := 1) (b' := 0) ve (vp_in_nI (by omega) (by decide)) (vp_in_nI (by omega) (by decide)) (by rw [ce, c0, c1]; exact X6_joined_C (Nat.le_refl 1)) (by show 1 + 1 ≤ d; omega) (Nat.zero_le _) (ml_krv fun σ2 g => ?_) ml_no
    subst g
    exact mbwork_476 ve (fe _ _ hWj)
  have start : ∀ s0 E, (0 ≤ σ.2 34 e → s0 = σ.2 35 (σ.2 34 e).toNatClampNeg) → ml_V z mX6_work (d, 0, (fun u σ' _ => u = none ∧ σ' = ml_sa σ 77 e W), fun _ _ _ => False) 21 [(0, vR (some z.2.1)), (1, vI (nI x)), (2, vI (nI e)), (3, vI (σ.2 34 e))] [vI s0] σ E 0 := by
    intro s0 E hs0
    have first : ∀ k0 ks, kls σ e = k0 :: ks → σ.2 34 e = nI k0 ∧ md_ch (σ.2 35) (σ.2 35 k0) ks ∧ k0 < 5000 ∧ P m ≤ k0 ∧ (nI k0).toNatClampNeg = k0 ∧ vp_in (nI k0) 66000 ∧ s0 = σ.2 35 k0 := fun k0 ks hk => by
      rw [hk] at s3 hk0
      have a0 := hk0 k0 List.mem_cons_self
      have c0 : (nI k0).toNatClampNeg = k0 := nI_clamp (by omega)
      refine ⟨s3.1, s3.2, a0.1, a0.2, c0, vp_in_nI (by omega) (by decide), ?_⟩
      rw [hs0 (by rw [s3.1]; exact show nI 0 ≤ nI k0 from nI_le (Nat.zero_le _) (by omega)), s3.1, c0]
    have hs1 : ∀ k0 k1, kls σ e = [k0, k1] → s0 = nI k1 := fun k0 k1 hk => by
      obtain ⟨-, q2, -, -, -, -, q7⟩ := first k0 [k1] hk
      rw [q7]
      exact q2.1
    have eat : σ.2 60 (nI x).toNatClampNeg + σ.2 37 (nI e).toNatClampNeg = wv_at σ x e := by rw [ce, cx, wv_at]
    have hat : nx_s (σ.2 32 e) ≠ 0 → ∃ t, wv_at σ x e = nI t ∧ t + nx_s (σ.2 32 e) ≤ 6000 := fun q => by
      rw [e32] at q
      obtain ⟨t, r1, r2, r3, r4⟩ := rw_mem h hI hx h56 hm h1 h2 q
      exact ⟨M x + t, by rw [wv_at, hS 60 (by omega), hS 37 (by omega)]; exact r1, by rw [e32]; omega⟩
    have cv : (σ.2 32 (nI e).toNatClampNeg) = σ.2 32 e := by rw [ce]
    refine mbwork_21 vx ve (fun c => ?_) (fun c => ?_) (fun c => ?_) (fun c => ?_) (fun c => ?_) (fun c => ?_) (fun c => ?_) (fun c => bin s0 _ (by rw [← cv, c]; decide) hs1) (fun c => bin s0 _ (by rw [← cv, c]; decide) hs1) (fun c => bin s0 _ (by rw [← cv, c]; decide) hs1) (fun c => bin s0 _ (by rw [← cv, c]; decide) hs1) (fun c => bin s0 _ (by rw [← cv, c]; decide) hs1) (fun c => bin s0 _ (by rw [← cv, c]; decide) hs1) (fun c => bin s0 _ (by rw [← cv, c]; decide) hs1) (fun c => bin s0 _ (by rw [← cv, c]; decide) hs1) (fun c => bin s0 _ (by rw [← cv, c]; decide) hs1) (fun c => bin s0 _ (by rw [← cv, c]; decide) hs1) (fun c => bin s0 _ (by rw [← cv, c]; decide) hs1) (fun c => bin s0 _ (by rw [← cv, c]; decide) hs1) (fun c => bin s0 _ (by rw [← cv, c]; decide) hs1) (fun c => bin s0 _ (by rw [← cv, c]; decide) hs1) (fun c => bin s0 _ (by rw [← cv, c]; decide) hs1) (fun c => ?_) (fun c => ?_) (fun c => ?_) (fun c => ?_) (fun c => ?_) (fun k0 k1 k2 k3 k4 k5 k6 k7 k8 k9 k10 k11 k12 k13 k14 k15 k16 k17 k18 k19 k20 k21 k22 k23 k24 k25 k26 => ?_)
    · rw [cv] at c
      rw [if_pos (Or.inl c)] at hW
      refine mbwork_168 ve (fe _ _ (by rw [ce]; exact hW))
    · rw [cv] at c
      rw [if_pos (Or.inr c)] at hW
      refine mbwork_168 ve (fe _ _ (by rw [ce]; exact hW))
    · rw [cv] at c
      rw [c, if_neg (by decide), if_pos rfl] at hW
      have hv : ∃ v, v < vcn S m ∧ S.2 33 e = nI v := by
        rw [e32] at c
        rcases s1 with ⟨u, -⟩ | ⟨u, -⟩ | ⟨u, m0, v, w1, w2⟩ | ⟨u, -⟩ | ⟨u, m⟩ | ⟨u, r, m⟩ | ⟨u, r, m⟩ | ⟨u, m, -⟩
        · rw [u] at c; exact absurd c (by decide)
        · rw [u] at c; exact absurd c (by decide)
        · rw [v1, v2] at w1
          exact ⟨v, by omega, w2⟩
        · rw [u] at c; exact absurd c (by decide)
        · rw [u] at c; exact absurd c (by decide)
        · rw [c] at u; exact absurd u (by decide)
        · rw [c] at u; exact absurd u (by decide)
        · rw [u] at c; exact absurd c (by decide)
      obtain ⟨v, w1, w2⟩ := hv
      have ev : σ.2 59 x + σ.2 33 e = nI (B x + v) := by rw [hS 59 (by omega), hS 33 (by omega), b1, w2, nI_add]
      refine mbwork_183 vx ve (by rw [cx, ce, ev]; exact vp_in_nI (by omega) (by decide)) (fe _ _ (by rw [cx, ce]; exact hW))
    · rw [cv] at c
      rw [c, if_neg (by decide), if_neg (by decide), if_pos rfl] at hW
      rw [e32] at c
      obtain ⟨t, w, g, q1, q2, q3, q4, q5, q6, q7, q8, -⟩ := rw_call h hI hx h56 hm h1 h2 c
      obtain ⟨u0, u1, u2⟩ := rw_out (i := 0) h hI hx h56 hm h1 h2 c (rw_o1 h hm h1 h2 c)
      have eo : pcs_o σ x e = nI u0 := by
        rw [← u2]
        unfold pcs_o
        rw [hS 59 (by omega), hS 62 (by omega), hS 61 (by omega), hS 37 (by omega), hS 13 (by omega), hS 33 (by omega)]
        rfl
      refine mbwork_210 (P := fun u σ' _ => u = some (vI (nI u0)) ∧ σ' = σ) (PX := fun _ _ _ => False) (d' := 1) (b' := 0) ?_ (by show 1 + 1 ≤ d; omega) (Nat.zero_le _) (ml_krv fun σ2 g => ?_) ml_no
      · have := X6_output_C (z := z) (σ := σ) (d := 1) (x := x) (e := e) (s := C x) (t := t) (y := w) (g := g) (i := 0) (by omega) (by omega) (by rw [hS 61 (by omega)]; exact q1) (by rw [hS 37 (by omega)]; exact q2) q3 (by rw [hS 62 (by omega)]; exact q4) (by omega) (by rw [hS 33 (by omega)]; exact q7) (by omega) (Nat.le_refl 1)
        have e9 : σ.2 59 w + σ.2 13 g + 0 = nI u0 := by
          rw [← eo]
          unfold pcs_o
          rw [hS 61 (by omega), q1, hS 37 (by omega), q2, nI_add, nI_clamp (n := C x + t) (by omega), hS 62 (by omega), q4, nI_clamp (n := w) (by omega), hS 33 (by omega), q7, nI_clamp (n := g) (by omega)]
        rw [e9] at this
        exact this
      · subst g
        have cu : (nI u0).toNatClampNeg = u0 := nI_clamp (by omega)
        refine mbwork_226 (vp_in_nI (by omega) (by decide)) ve (fe _ _ (by rw [cu]; rw [eo, cu] at hW; exact hW))
    · rw [cv] at c
      obtain ⟨k0, k1, k2, hk⟩ := kl3 c
      rw [c, if_neg (by decide), if_neg (by decide), if_neg (by decide), if_pos rfl, hk] at hW
      obtain ⟨q1, q2, q3, q4, q5, q6, q7⟩ := first k0 [k1, k2] hk
      have a1 := hk0 k1 (by rw [hk]; simp)
      have a2 := hk0 k2 (by rw [hk]; simp)
      have g0 : [k0, k1, k2].getD 0 0 = k0 := rfl
      have g1 : [k0, k1, k2].getD 1 0 = k1 := rfl
      have g2 : [k0, k1, k2].getD 2 0 = k2 := rfl
      rw [g0, g1, g2] at hW
      have c1 : (nI k1).toNatClampNeg = k1 := nI_clamp (by omega)
      have c2 : (nI k2).toNatClampNeg = k2 := nI_clamp (by omega)
      rw [q1, q7, q2.1]
      refine mbwork_231 q6 (fun u => ?_) (fun u => ?_)
      · rw [q5] at u
        rw [if_neg u] at hW
        refine mbwork_256 (vp_in_nI (by omega) (by decide)) (by rw [c1, q2.2.1]; exact vp_in_nI (by omega) (by decide)) ?_
        rw [c1, q2.2.1, c2]
        exact mbwork_268 ve (fe _ _ hW)
      · rw [q5] at u
        rw [if_pos u] at hW
        refine mbwork_246 (vp_in_nI (by omega) (by decide)) ?_
        rw [c1]
        exact mbwork_268 ve (fe _ _ hW)
    · rw [cv] at c
      obtain ⟨k0, k1, hk⟩ := kl2 (by rw [c]; decide)
      rw [c, if_neg (by decide), if_neg (by decide), if_neg (by decide), if_neg (by decide), if_pos rfl, hk] at hW
      obtain ⟨q1, q2, q3, q4, q5, q6, q7⟩ := first k0 [k1] hk
      have a1 := hk0 k1 (by rw [hk]; simp)
      have g0 : [k0, k1].getD 0 0 = k0 := rfl
      have g1 : [k0, k1].getD 1 0 = k1 := rfl
      rw [g0, g1] at hW
      have c1 : (nI k1).toNatClampNeg = k1 := nI_clamp (by omega)
      obtain ⟨t, t1, t2⟩ := hat (by rw [c]; decide)
      rw [q1, q7, q2.1, eat]
      refine mbwork_272 (by rw [t1]; exact vp_in_nI (by omega) (by decide)) (fun u => ?_) (fun u => ?_)
      · rw [if_neg u] at hW
        refine mbwork_298 q6 ?_
        rw [q5]
        exact mbwork_304 ve (fe _ _ hW)
      · rw [if_pos u] at hW
        refine mbwork_288 (vp_in_nI (by omega) (by decide)) ?_
        rw [c1]
        exact mbwork_304 ve (fe _ _ hW)
    · rw [cv] at c
      obtain ⟨k0, k1, hk⟩ := kl2 (by rw [c]; decide)
      rw [c, if_neg (by decide), if_neg (by decide), if_neg (by decide), if_neg (by decide), if_neg (by decide), if_pos rfl, hk] at hW
      obtain ⟨q1, q2, q3, q4, q5, q6, q7⟩ := first k0 [k1] hk
      have g0 : [k0, k1].getD 0 0 = k0 := rfl
      rw [g0] at hW
      obtain ⟨t, t1, t2⟩ := hat (by rw [c]; decide)
      have hx6 : nx_s (σ.2 32 e) = 2 := by rw [c]; rfl
      rw [q1, eat]
      refine mbwork_308 (by rw [t1, nI_1]; exact vp_in_nI (by omega) (by decide)) (fun u => ?_) (fun u => ?_)
      · rw [if_neg u] at hW
        refine mbwork_336 q6 ?_
        rw [q5]
        exact mbwork_342 ve (fe _ _ hW)
      · rw [if_pos u] at hW
        refine mbwork_326 (by rw [t1]; exact vp_in_nI (by omega) (by decide)) ?_
        exact mbwork_342 ve (fe _ _ hW)
    · rw [cv] at c
      obtain ⟨k0, hk⟩ := kl1 (by rw [c]; decide)
      rw [c, if_neg (by decide), if_neg (by decide), if_neg (by decide), if_neg (by decide), if_neg (by decide), if_neg (by decide), if_pos rfl, hk] at hW
      obtain ⟨q1, q2, q3, q4, q5, q6, q7⟩ := first k0 [] hk
      have g0 : [k0].getD 0 0 = k0 := rfl
      rw [g0] at hW
      rw [q1]
      exact mbwork_346 q6 ve (fe _ _ (by rw [q5]; exact hW))
    · rw [cv] at c
      obtain ⟨k0, hk⟩ := kl1 (by rw [c]; decide)
      rw [c, if_neg (by decide), if_neg (by decide), if_neg (by decide), if_neg (by decide), if_neg (by decide), if_neg (by decide), if_neg (by decide), if_pos rfl, hk] at hW
      obtain ⟨q1, q2, q3, q4, q5, q6, q7⟩ := first k0 [] hk
      have g0 : [k0].getD 0 0 = k0 := rfl
      rw [g0] at hW
      rw [q1]
      exact mbwork_362 q6 ve (fe _ _ (by rw [q5]; exact hW))
    · rw [cv] at c
      rw [c, if_neg (by decide), if_neg (by decide), if_neg (by decide), if_neg (by decide), if_neg (by decide), if_neg (by decide), if_neg (by decide), if_neg (by decide), if_pos rfl] at hW
      obtain ⟨t, t1, t2⟩ := hat (by rw [c]; decide)
      rw [eat]
      exact mbwork_379 (by rw [t1]; exact vp_in_nI (by omega) (by decide)) ve (fe _ _ hW)
    · rw [cv] at c
      obtain ⟨k0, hk⟩ := kl1 (by rw [c]; decide)
      rw [c, if_neg (by decide), if_neg (by decide), if_neg (by decide), if_neg (by decide), if_neg (by decide), if_neg (by decide), if_neg (by decide), if_neg (by decide), if_neg (by decide), if_pos rfl, hk] at hW
      obtain ⟨q1, q2, q3, q4, q5, q6, q7⟩ := first k0 [] hk
      have g0 : [k0].getD 0 0 = k0 := rfl
      rw [g0] at hW
      obtain ⟨t, t1, t2⟩ := hat (by rw [c]; decide)
      obtain ⟨k9, w, r1, r2, r3, r4, r5, r6, -⟩ := rw_cur h hm h1 h2 (by rw [← e32]; exact c)
      have ek : k9 = k0 := by
        rw [hkls, r1] at hk
        exact (List.cons.inj hk).1
      subst ek
      rw [q1, eat]
      refine mbwork_395 (P := fun u σ' _ => u = some (vI (if md_pr σ 60 x (σ.2 43 k9) = true then 1 else 0)) ∧ σ' = σ) (PX := fun _ _ _ => False) (d' := 60) (b' := 0) q6 (by rw [q5]; exact rw_present h hI hS hx h56 hm (Or.inr ⟨w, r4, by rw [hS 43 (by omega)]; exact r5, r6⟩) (by omega)) (by show 60 + 1 ≤ d; omega) (Nat.zero_le _) (ml_krv fun σ2 g => ?_) ml_no
      subst g
      refine mbwork_411 (fun u => ?_) (fun u => ?_)
      · have u2 : ¬ md_pr σ2 60 x (σ2.2 43 k9) = true := fun y => by
          rw [if_pos y] at u
          exact absurd u (by decide)
        rw [if_neg u2] at hW
        refine mbwork_423 (by rw [t1]; exact vp_in_nI (by omega) (by decide)) ?_
        exact mbwork_430 ve (fe _ _ hW)
      · have u2 : md_pr σ2 60 x (σ2.2 43 k9) = true := Decidable.byContradiction fun y => u (by rw [if_neg y])
        rw [if_pos u2] at hW
        refine mbwork_414 q6 ?_
        rw [q5]
        exact mbwork_430 ve (fe _ _ hW)
    · rw [cv] at c
      obtain ⟨k0, hk⟩ := kl1 (by rw [c]; decide)
      rw [c, if_neg (by decide), if_neg (by decide), if_neg (by decide), if_neg (by decide), if_neg (by decide), if_neg (by decide), if_neg (by decide), if_neg (by decide), if_neg (by decide), if_neg (by decide), if_pos rfl, hk] at hW
      obtain ⟨q1, q2, q3, q4, q5, q6, q7⟩ := first k0 [] hk
      have g0 : [k0].getD 0 0 = k0 := rfl
      rw [g0] at hW
      rw [q1]
      exact mbwork_434 q6 ve (fe _ _ (by rw [q5]; exact hW))
    · exfalso
      rw [cv] at k0 k1 k2 k3 k4 k5 k6 k7 k8 k9 k10 k11 k12 k13 k14 k15 k16 k17 k18 k19 k20 k21 k22 k23 k24 k25 k26
      rw [e32] at k0 k1 k2 k3 k4 k5 k6 k7 k8 k9 k10 k11 k12 k13 k14 k15 k16 k17 k18 k19 k20 k21 k22 k23 k24 k25 k26
      rcases s1 with ⟨u, -⟩ | ⟨u, -⟩ | ⟨u, -⟩ | ⟨u, -⟩ | ⟨u, m⟩ | ⟨u, r, m⟩ | ⟨u, r, m⟩ | ⟨u, m, -⟩
      · exact k0 u
      · exact k1 u
      · exact k2 u
      · exact k3 u
      · exact k4 u
      · rcases lk_range _ ⟨u, r⟩ with y | y | y | y | y | y | y | y | y | y | y | y | y | y | y | y | y
        · exact k5 y
        · exact k6 y
        · exact k7 y
        · exact k8 y
        · exact k9 y
        · exact k10 y
        · exact k11 y
        · exact k12 y
        · exact k13 y
        · exact k14 y
        · exact k15 y
        · exact k16 y
        · exact k17 y
        · exact k18 y
        · exact k19 y
        · exact k20 y
        · exact k21 y
      · rcases lk_range2 _ ⟨u, Int32.le_trans r (by decide)⟩ with y | y | y | y | y
        · exact k22 y
        · exact k23 y
        · exact k24 y
        · exact k25 y
        · exact k26 y
      · exact k26 u
  refine mbwork_0 ve (fun q => ?_) (fun q => ?_)
  · rw [ce] at q ⊢
    have hne : kls σ e ≠ [] := fun u => by
      rw [u] at s3
      exact absurd (show σ.2 34 e < 0 from s3) (Int32.not_lt.2 q)
    refine mbwork_15 ?_ (start _ _ (fun _ => rfl))
    cases hk : kls σ e with
    | nil => exact absurd hk hne
    | cons k0 ks =>
      rw [hk] at s3 hk0
      have a0 := hk0 k0 List.mem_cons_self
      rw [s3.1]
      exact vp_in_nI (by omega) (by decide)
  · rw [ce] at q ⊢
    exact mbwork_11 (start _ _ (fun u => absurd u q))
end
