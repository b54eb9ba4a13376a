/-! THE COMPONENT's PARSER: two; names; onWhich -/
set_option maxRecDepth 100000
theorem md_ch_uq {B : Nat → Int32} : ∀ (ks ks' : List Nat) (x : Int32), (∀ k ∈ ks, k < 2 ^ 31) → (∀ k ∈ ks', k < 2 ^ 31) → md_ch B x ks → md_ch B x ks' → ks = ks'
  | [], [], _, _, _, _, _ => rfl
  | [], k :: ks, x, _, h2, h, h' => by
    have h : x < 0 := h
    rw [h'.1] at h
    exact absurd h (nI_pos (h2 k List.mem_cons_self))
  | k :: ks, [], x, h1, _, h, h' => by
    have h' : x < 0 := h'
    rw [h.1] at h'
    exact absurd h' (nI_pos (h1 k List.mem_cons_self))
  | k :: ks, k' :: ks', x, h1, h2, h, h' => by
    have e : k = k' := (nI_eq (h1 k List.mem_cons_self) (h2 k' List.mem_cons_self)).1 (h.1.symm.trans h'.1)
    subst e
    rw [md_ch_uq ks ks' (B k) (fun y hy => h1 y (List.mem_cons_of_mem _ hy)) (fun y hy => h2 y (List.mem_cons_of_mem _ hy)) h.2 h'.2]
theorem nI_of_cl {x : Int32} {k : Nat} (h : x.toNatClampNeg = k) (h0 : 0 < k) (hk : k < 2 ^ 31) : x = nI k := by
  refine Int32.toInt_inj.1 ?_
  rw [nI_toInt hk]
  have : x.toInt.toNat = k := h
  omega
theorem nl_sp {T : Nat → Int32} {n c p m : Nat} (hk : lx_kind T n c = 1) (hn : n ≤ 5000) : (wd T p (p + m) = wd T c (lx_end T n c)) ↔ lx_sp T n c p m := by
  obtain ⟨h1, h2, h3⟩ := lx_kind1 hk
  have hge := lx_wend_ge (T := T) (n := n) n c (by omega) (by omega)
  constructor
  · intro e
    have el : m = lx_end T n c - c := by rw [← wd_len (T := T) (c := c) (e := lx_end T n c), ← e, wd_len]; omega
    refine ⟨by omega, fun i hi => ?_⟩
    have e1 := wd_get (T := T) (c := c) (e := lx_end T n c) (i := i) (by omega)
    rw [← e, wd_get (by omega)] at e1
    obtain ⟨hb, hch⟩ := lx_wend_ch (T := T) (n := n) n c (c + i) (by omega) (by omega) (by omega)
    obtain ⟨k, k1, k2⟩ := hch.nat
    rw [k2, nI_clamp (by omega)] at e1
    rw [k2]
    refine nI_of_cl e1 ?_ (by omega)
    rcases Nat.eq_zero_or_pos k with u | u
    · rw [u] at k2
      rw [k2] at hch
      exact absurd hch (by decide)
    · exact u
  · rintro ⟨e1, e2⟩
    refine ls_ext (by rw [wd_len, wd_len]; omega) fun u hu => ?_
    rw [wd_len] at hu
    rw [wd_get hu, wd_get (by omega), e2 u (by omega)]
section
variable {q : PZ} {S S' S0 : MS} {G G' G0 : GH} {X X' X0 : Nat → Nat} {lo p : Nat} {mv : Option (Nat × Nat)}
/-- the part behind a is another -/
theorem pst.bs {c a : Nat} {v : Int32} (h : pst q lo c S X G) (hnk : ∀ e, lo ≤ e → e < pr_p S → ∀ ks, md_ch (S.2 35) (S.2 34 e) ks → (∀ k ∈ ks, k < e) → a ∉ ks) : pst q lo c (ml_sa S 35 a v) X G := by
  obtain ⟨h1, h2, h3, h4⟩ := h
  have sb : pe_same S (ml_sa S 35 a v) := ⟨fun k _ => rfl, fun k _ _ h3 => by
    funext j
    rw [ml_sa_a, if_neg (by omega)]⟩
  have hq : ∀ q j, q ≠ 35 → (ml_sa S 35 a v).2 q j = S.2 q j := fun q j hq => by rw [ml_sa_a, if_neg hq]
  refine ⟨h1, ?_, fun e e1 e2 => ?_, by rw [sb.2 0 (by decide) (by decide) (by decide)]; exact h4⟩
  · have : pr_v (ml_sa S 35 a v) = pr_v S := rfl
    rw [this]
    exact h2.cgS sb
  · have e2' : e < pr_p S := e2
    obtain ⟨⟨g1, g2, g3, ks, g4, g5, g6⟩, g7, g8, ks2, g9, g10⟩ := h3 e e1 e2'
    have na2 := hnk e e1 e2' ks2 g9 (fun k hk => (g10 k hk).1)
    have hhx : xht (ml_sa S 35 a v) e := by
      unfold xht xh
      rw [hq 34 e (by decide), hq 39 e (by decide)]
      refine ⟨g8, ks2, md_ch_cg ks2 _ (fun k hk => by rw [ml_sa_a, if_pos rfl, if_neg (fun u => na2 (by rw [← u]; exact hk))]) g9, fun k hk => ?_⟩
      rw [hq 39 k (by decide)]
      exact g10 k hk
    have na := hnk e e1 e2' ks g4 g5
    unfold xe
    rw [hq 32 e (by decide), hq 33 e (by decide), hq 34 e (by decide), hq 39 e (by decide), sb.a]
    exact ⟨⟨g1, g2, g3, ks, md_ch_cg ks _ (fun k hk => by rw [ml_sa_a, if_pos rfl, if_neg (fun u => na (by rw [← u]; exact hk))]) g4, g5, g6⟩, g7, hhx⟩
theorem pin.bs {a : Nat} {v : Int32} (h : pin q S0 X0 G0 S X G) : pin q S0 X0 G0 (ml_sa S 35 a v) X G := by
  obtain ⟨p1, p2, p3, p4, p5, p6⟩ := h
  exact ⟨p1.tr ⟨fun k _ => rfl, fun k _ _ h3 => by
    funext j
    rw [ml_sa_a, if_neg (by omega)]⟩, p2, p3, p4, p5, p6⟩
/-- nothing has the root before p1 as its part -/
theorem nokid {p1 a : Nat} (hw : ∀ p2, p2 = pr_p S → pw S p1 p2) (ha : a + 1 = p1) (hp : pr_p S ≤ 2 ^ 30) : ∀ e, lo ≤ e → e < pr_p S → ∀ ks, md_ch (S.2 35) (S.2 34 e) ks → (∀ k ∈ ks, k < e) → a ∉ ks := by
  intro e h1 h2 ks hc hk hm
  have h3 := hk a hm
  obtain ⟨g1, ks', g2, g3, -⟩ := hw _ rfl e (by omega) h2
  have hk' := (pw_k_mem ks' _ g3).2
  have := md_ch_uq ks ks' _ (fun k u => by have := hk k u; omega) (fun k u => by have := hk' k u; omega) hc g2
  rw [this] at hm
  have := (hk' a hm).1
  omega
theorem X3_two_C {c a b d : Nat} {kind : Int32} {r : PE} (h : pst q lo c S X G) (hk : 7 ≤ kind ∧ kind ≤ 21) (ha : lo ≤ a ∧ a < p) (hb : lo ≤ b ∧ b < p) (hab : a ≠ b) (hp : S.1 40 = nI p) (hp2 : p < 2 ^ 30) (hnk : ∀ e, lo ≤ e → e < pr_p S → ∀ ks, md_ch (S.2 35) (S.2 34 e) ks → (∀ k ∈ ks, k < e) → a ∉ ks) (hbb : S.2 35 b = -1) (hr : pr_two S kind a b c = some r) (hd : 8 ≤ d) :
    wk_C q.1.1 mX3_two d 3 [vR (some q.1.2.1), vI (xo kind), vR (some (X a)), vR (some (X b))] G (fun v G' => ∃ t S', r = .inr (p, c, S') ∧ v = some (vR (some t)) ∧ pst q lo c S' (hp_u1 X p t) G' ∧ pin q S X G S' (hp_u1 X p t) G') (fun E a G' => r = .inl (3, c) ∧ er q.1 no9 G 3 c E a G') := by
  have k1 := h.1.1.1.1
  have ep : pr_p S = p := by rw [pr_p, hp, nI_clamp (by omega)]
  have hx15 : xk kind = 15 := by
    obtain ⟨k, hk1, e⟩ := nI_of2 (x := kind) (M := 21) (n := 21) (by decide) (fun q => Int32.not_lt.2 (Int32.le_trans (show (0 : Int32) ≤ 7 by decide) hk.1) q) hk.2
    have h7 : 7 ≤ k := by
      have := hk.1
      rw [e, show (7 : Int32) = nI 7 from rfl, nI_leI (by decide) (by omega)] at this
      exact this
    have : ∀ k, k < 22 → 7 ≤ k → xk (nI k) = 15 := by decide
    rw [e]
    exact this k (by omega) h7
  have hbad := h.1.1.1.2.2.1
  refine wk_C_of (by decide) rfl (Nat.le_of_ble_eq_true rfl) ?_
  refine blX3_two_0 (by decide) (fun t ht hA => ?_)
  have kt1 : hp_kd (hp_nw G t 15 0) t = 15 := by rw [hp_kd_nw, if_pos rfl]
  have nRt : q.1.2.1 ≠ t := fun u => by rw [← u, k1] at ht; cases ht
  have kR1 : hp_kd (hp_nw G t 15 0) q.1.2.1 = 12 := by rw [hp_kd_nw, if_neg nRt]; exact k1
  have rb1 : hp_r (hp_nw G t 15 0) q.1.2.1 0 = some q.1.2.2.2.1 := by rw [hp_r_nw, if_neg nRt]; exact hbad
  have hE1 : kE q.1.1 (hp_nw G t 15 0) := h.2.1.1.2.1.fr ((cf.rf (own := fun _ => False)).nw ht)
  refine blX3_two_3 kR1 rfl (by rw [rb1]; exact X15_init_C (d := 5) kt1 hA hE1 (Nat.le_refl 5)) (by show 5 + 1 ≤ d; omega) (by decide) ?_ (fun _ _ _ u => absurd u id)
  rintro v G3 ⟨rfl, G2, hto, rfl⟩
  have hk15 : (15 : Nat) ≤ 15 ∧ 15 ≤ 21 := by decide
  obtain ⟨L, s1, s2, s3, s4⟩ := pd_new (G3 := hp_sI G2 t 5 (xo kind)) h pin.id0 ht hA hk15 hto (cf.rf.sI (Or.inl rfl)) (by rw [hp_i_sI, if_pos rfl, if_neg (by decide)]) ⟨rfl, rfl⟩
  have i5 : hp_i (hp_sI G2 t 5 (xo kind)) t 5 = xo kind := by rw [hp_i_sI, if_pos rfl, if_pos rfl]
  generalize hp_sI G2 t 5 (xo kind) = G3 at s1 s2 s3 s4 i5
  have r3 := s2.2.2.1.1
  have kL := s2.2.2.1.2.2.2.1.1
  refine blX3_two_12 rfl s2.1.1 r3 kL (pd_add (d := 6) s1 s3 s2 hk15 (e := a) (by omega) (by decide) (Nat.le_refl 6)) (by show 6 + 1 ≤ d; omega) (by decide) ?_ (fun _ _ _ u => absurd u id)
  rintro v G4 ⟨rfl, u1, u2, u3, u4, u5⟩
  have r34 : hp_r G4 t 3 = some L := by rw [u5]; exact r3
  refine blX3_two_23 rfl u3.1.1 r34 u3.2.2.1.2.2.2.1.1 (pd_add (d := 6) u1 u2 u3 hk15 (e := b) (by omega) (by show 1 < 2 ^ 20; decide) (Nat.le_refl 6)) (by show 6 + 1 ≤ d; omega) (by show al_b 1 (al_c 0 0) ≤ 3 - 1 - 1 - al_b 0 0; decide) ?_ (fun _ _ _ u => absurd u id)
  rintro v G5 ⟨rfl, w1, w2, w3, w4, w5⟩
  have w1' := w1.bs (a := a) (v := nI b) hnk
  have w2' := w2.bs (a := a) (v := nI b)
  refine blX3_two_33 w1.1.1.1.1 (X3_wh_C (d := 3) (mv := qM q p) (p := p) w1' w2' (by rw [hx15]; exact w3) ⟨Int32.le_trans (by decide) hk.1, Int32.le_trans hk.2 (by decide)⟩ ?_ ?_ hr hp hp2 (Nat.le_refl 3)) (by show 3 + 1 ≤ d; omega) (Nat.zero_le _) ?_ (fun E a G' u => wk_out0 rfl u)
  · have e5 : hp_i G5 t 5 = xo kind := by rw [w4, u4]; exact i5
    refine ⟨?_, ?_, ?_, ?_, ?_, fun _ => e5, ?_⟩
    · rintro (u | u) <;> rw [u] at hk <;> exact absurd hk.1 (by decide)
    · intro u; rw [u] at hk; exact absurd hk.1 (by decide)
    · intro u; rw [u] at hk; exact absurd hk.1 (by decide)
    · intro u; rw [u] at hk; exact absurd hk.1 (by decide)
    · intro u; rw [u] at hk; exact absurd hk.1 (by decide)
    · intro u; rw [u] at hk; exact absurd hk.2 (by decide)
  · refine ⟨rfl, ?_⟩
    show md_ch _ ((ml_sa S 35 a (nI b)).2 35 a) [b]
    rw [ml_sa_a, if_pos rfl, if_pos rfl]
    refine ⟨rfl, ?_⟩
    show (ml_sa S 35 a (nI b)).2 35 b < 0
    rw [ml_sa_a, if_pos rfl, if_neg (Ne.symm hab), hbb]
    decide
  · rintro v G6 ⟨rfl, S', rfl, x1, x2⟩
    rw [qU_self] at x1
    exact blX3_two_40 ⟨t, S', rfl, rfl, x1, x2⟩
/-- a String's hash is noted -/
theorem rat_key {z : RZ} {c key : Nat} {l : List Nat} (h : rat z c G) (h1 : st z.1 G key l) (h2 : st z.1 G' key l) (hf : cf (fun x => x = key) G G') : rat z c G' ∧ rs z G G' := by
  have ka : hp_kd G key = 26 := h1.1.1
  have k1 := h.1.1.1
  have nR : ¬ z.2.1 = key := fun u => by rw [← u, k1] at ka; cases ka
  have nT : ¬ z.2.2.1 = key := fun u => by rw [← u, h.1.2.2.1.1] at ka; cases ka
  exact ⟨h.fr hf (st_keep h2 h1.1 hf) nR nT, ⟨hf.mono (fun x _ u => Or.inr (by rw [u]; exact ka)), sc_keep h2 h1.1 hf, st_keep h2 h1.1 hf⟩, fun k _ => by rw [hf.r (by rw [k1]; decide) nR]⟩
theorem mpf_v {T : Nat → Int32} {n c : Nat} {V : Nat → Nat} (hT : S.2 0 = T) (hk : lx_kind T n c = 1) (hn : n ≤ 5000) : mpf (nlv T S) (pr_a S) (pr_v S) V (wd T c (lx_end T n c)) = if pr_fv n S c < pr_v S then some (V (pr_fv n S c)) else none := by
  have e : (fun i => decide (nlv T S i = wd T c (lx_end T n c))) = lx_vs S n c := by
    funext i
    unfold lx_vs nlv
    rw [hT]
    exact decide_eq_decide.2 (nl_sp hk hn)
  unfold mpf pr_fv
  rw [e]
theorem mpf_n {T : Nat → Int32} {n c : Nat} {V : Nat → Nat} (hT : S.2 0 = T) (hk : lx_kind T n c = 1) (hn : n ≤ 5000) : mpf (nln T S) 0 (pr_N S) V (wd T c (lx_end T n c)) = if pr_fn n S c < pr_N S then some (V (pr_fn n S c)) else none := by
  have e : (fun i => decide (nln T S i = wd T c (lx_end T n c))) = lx_ns S n c := by
    funext i
    unfold lx_ns nln
    rw [hT]
    exact decide_eq_decide.2 (nl_sp hk hn)
  unfold mpf pr_fn
  rw [e]
theorem X3_getv {c c0 key hv d : Nat} (h : pst q lo c S X G) (hk : st q.1.1 G key (wd (rz_T q.1) c0 (lx_end (rz_T q.1) (rz_n q.1) c0))) (hkd : lx_kind (rz_T q.1) (rz_n q.1) c0 = 1) (hv1 : hp_r G (qn q) 2 = some hv) (hcmp : cmp_o q.1.1) (hd : 25 ≤ d) :
    wk_C q.1.1 mJ7_get d 0 [vR (some hv), vR (some key)] G (fun v G' => v = some (vR (if pr_fv (rz_n q.1) S c0 < pr_v S then some (qV q (pr_fv (rz_n q.1) S c0)) else none)) ∧ pst q lo c S X G' ∧ pin q S X G S X G') (fun _ _ _ => False) := by
  obtain ⟨hv2, v1, v2⟩ := h.2.1.2.2.2.1
  rw [hv1] at v1
  have e := Option.some.inj v1
  subst e
  refine (J7_get_C v2 hk hcmp hd).mono ?_ (fun _ _ _ u => u)
  rintro v G' ⟨rfl, g1, g2, g3⟩
  obtain ⟨r1, r2⟩ := rat_key h.1 hk g2 g3
  obtain ⟨p1, p2⟩ := h.scan r1 r2
  exact ⟨by rw [mpf_v h.2.2.2 hkd h.1.1.2.2.2.1], p1, p2⟩
theorem X3_getn {c c0 key hv d : Nat} (h : pst q lo c S X G) (hk : st q.1.1 G key (wd (rz_T q.1) c0 (lx_end (rz_T q.1) (rz_n q.1) c0))) (hkd : lx_kind (rz_T q.1) (rz_n q.1) c0 = 1) (hv1 : hp_r G q.1.2.1 9 = some hv) (hcmp : cmp_o q.1.1) (hd : 25 ≤ d) :
    wk_C q.1.1 mJ7_get d 0 [vR (some hv), vR (some key)] G (fun v G' => v = some (vR (if pr_fn (rz_n q.1) S c0 < pr_N S then some (qN q (pr_fn (rz_n q.1) S c0)) else none)) ∧ pst q lo c S X G' ∧ pin q S X G S X G') (fun _ _ _ => False) := by
  obtain ⟨hv2, v1, v2⟩ := h.2.1.2.2.1
  rw [hv1] at v1
  have e := Option.some.inj v1
  subst e
  refine (J7_get_C v2 hk hcmp hd).mono ?_ (fun _ _ _ u => u)
  rintro v G' ⟨rfl, g1, g2, g3⟩
  obtain ⟨r1, r2⟩ := rat_key h.1 hk g2 g3
  obtain ⟨p1, p2⟩ := h.scan r1 r2
  exact ⟨by rw [mpf_n h.2.2.2 hkd h.1.1.2.2.2.1], p1, p2⟩
theorem ty_bool {w : WD} {t : Int32} (h : ty w 0 ≠ ty w 1) : ty w t = hp_sv w "StreamNodes$Type" "BOOL" ↔ t ≠ 0 := by
  have e1 : ty w 1 = hp_sv w "StreamNodes$Type" "BOOL" := rfl
  unfold ty at h ⊢
  by_cases u : t = 0
  · rw [if_pos u]
    exact ⟨fun v => absurd v h, fun v => absurd u v⟩
  · rw [if_neg u]
    exact ⟨fun _ => u, fun _ => rfl⟩
/-- what onWhich answers -/
def ow_X (q : PZ) (S : MS) (c : Nat) (k : Int32) : Prop := (¬ lx_name (rz_T q.1) (rz_n q.1) c ∧ k = 1) ∨ (lx_name (rz_T q.1) (rz_n q.1) c ∧ (¬ pr_fv (rz_n q.1) S c < pr_v S ∨ S.2 24 (pr_fv (rz_n q.1) S c) = 0) ∧ k = 2) ∨ (lx_name (rz_T q.1) (rz_n q.1) c ∧ ¬ (¬ pr_fv (rz_n q.1) S c < pr_v S ∨ S.2 24 (pr_fv (rz_n q.1) S c) = 0) ∧ ¬ md_dep S (pr_a S) (pr_fv (rz_n q.1) S c + 1) (pr_fv (rz_n q.1) S c) < 8 ∧ k = 3)
theorem ow_X.wh {c s : Nat} {k : Int32} {K : Int32 → Option PE} (h : ow_X q S c k) : pr_wh (rz_T q.1) (rz_n q.1) s c S K = pr_er k c := by
  unfold pr_wh
  rcases h with ⟨a, rfl⟩ | ⟨a, b, rfl⟩ | ⟨a, b, e, rfl⟩
  · rw [if_pos a]
  · rw [if_neg (fun u => u a), if_pos b]
  · rw [if_neg (fun u => u a), if_neg b, if_pos e]
/-- it is one -/
def ow_V (q : PZ) (S : MS) (c : Nat) : Prop := lx_name (rz_T q.1) (rz_n q.1) c ∧ ¬ (¬ pr_fv (rz_n q.1) S c < pr_v S ∨ S.2 24 (pr_fv (rz_n q.1) S c) = 0) ∧ md_dep S (pr_a S) (pr_fv (rz_n q.1) S c + 1) (pr_fv (rz_n q.1) S c) < 8
theorem ow_V.wh {c s : Nat} {K : Int32 → Option PE} (h : ow_V q S c) : pr_wh (rz_T q.1) (rz_n q.1) s c S K = K (nI (2 * (pr_fv (rz_n q.1) S c - pr_a S) + s)) := by
  unfold pr_wh
  obtain ⟨a, b, e⟩ := h
  rw [if_neg (fun u => u a), if_neg b, if_neg (fun u => u e)]
theorem X3_onWhich_C {c d : Nat} (h : pst q lo c S X G) (hV : pe_V (rz_n q.1) S) (hcmp : cmp_o q.1.1) (hd : 26 ≤ d) : wk_C q.1.1 mX3_onWhich d 10 [vR (some q.1.2.1)] G
    (fun v G' => ow_V q S c ∧ v = some (vR (some (qV q (pr_fv (rz_n q.1) S c)))) ∧ pst q lo (lx_next (rz_T q.1) (rz_n q.1) c) S X G' ∧ pin q S X G S X G') (fun E a G' => ∃ k, ow_X q S c k ∧ er q.1 no9 G k c E a G') := by
  have k1 := h.1.1.1.1
  have hfl := pr_fv_le (c := c) hV
  refine wk_C_of (by decide) rfl (Nat.le_of_ble_eq_true rfl) ?_
  refine blX3_onWhich_0 k1 (X3_isName_C (d := 5) h.1 h.2.1.1.1 (Nat.le_refl 5)) (by show 5 + 1 ≤ d; omega) (Nat.zero_le _) ?_ (fun _ _ _ u => absurd u id)
  rintro v G1 ⟨rfl, r1, r2⟩
  obtain ⟨h1, p1⟩ := h.scan r1 r2
  have k11 := h1.1.1.1.1
  have erk : ∀ {k G2 E a}, er q.1 no9 G1 k c E a G2 → er q.1 no9 G k c E a G2 := fun u => u.of p1.2.2.2.2.1 (fun j hj => p1.2.2.2.2.2 j (by omega)) (fun _ _ u => u)
  refine blX3_onWhich_4 (fun u => ?_) (fun u => ?_)
  · have hnm := lx_b1 u
    obtain ⟨y1, y2, y3⟩ := h1.2.1.2.1
    obtain ⟨hv, v1, v2⟩ := h1.2.1.2.2.2.1
    obtain ⟨wa, w1, w2⟩ := h1.1.2.2.2.2.2.1 hnm.1
    refine blX3_onWhich_12 k11 y3 y1 v1 v2.1.1 (by rw [w1]; exact X3_getv (d := 25) h1 w2 hnm.1 v1 hcmp (Nat.le_refl 25)) (by show 25 + 1 ≤ d; omega) (Nat.zero_le _) ?_ (fun _ _ _ u => absurd u id)
    rintro v G2 ⟨rfl, h2, p2⟩
    have k12 := h2.1.1.1.1
    have erk2 : ∀ {k G3 E a}, er q.1 no9 G2 k c E a G3 → er q.1 no9 G k c E a G3 := fun u => erk (u.of p2.2.2.2.2.1 (fun j hj => p2.2.2.2.2.2 j (by omega)) (fun _ _ u => u))
    have bad2 : ∀ r, (¬ pr_fv (rz_n q.1) S c < pr_v S ∨ S.2 24 (pr_fv (rz_n q.1) S c) = 0) → wk_V q.1.1 mX3_onWhich (d, 10, (fun v G' => ow_V q S c ∧ v = some (vR (some (qV q (pr_fv (rz_n q.1) S c)))) ∧ pst q lo (lx_next (rz_T q.1) (rz_n q.1) c) S X G' ∧ pin q S X G S X G'), (fun E a G' => ∃ k, ow_X q S c k ∧ er q.1 no9 G k c E a G'), hp_cs G, hp_ss G) 44 [(0, vR (some q.1.2.1))] [] G2 r := by
      intro r hb
      refine blX3_onWhich_44 k12 (by rw [h2.1.2.2.1]; exact X3_fail_C (d := 0) h2.1.1) (by show 0 + 1 ≤ d; omega) (Nat.zero_le _) ?_ (fun _ _ _ u => absurd u id)
      rintro v G3 ⟨rfl, g1, g2⟩
      refine blX3_onWhich_53 rfl (by rw [g2]; decide) (by rw [g2]; decide) (wk_out0 rfl ⟨2, Or.inr (Or.inl ⟨hnm, hb, rfl⟩), ?_⟩)
      rw [g2]
      exact erk2 g1
    by_cases hlt : pr_fv (rz_n q.1) S c < pr_v S
    · rw [if_pos hlt]
      obtain ⟨⟨x1, x2⟩, -, x3, -, -, b, x4, x5⟩ := h2.2.1.2.2.2.2.2 _ hfl hlt
      refine blX3_onWhich_26 (fun y hy => ?_) (fun hy => by cases hy) (fun _ _ => ?_)
      · rw [← Option.some.inj hy, x1]
        exact ⟨by decide, by decide, Or.inl rfl⟩
      · refine blX3_onWhich_34 rfl x1 (fun w => ?_) (fun w => ?_)
        · rw [x3] at w
          have h24 := (ty_bool h2.2.1.1.2.2.2.1).1 w
          have kb : hp_kd G2 b = 5 ∧ ((hp_i G2 b 2 = 8) ↔ ¬ md_dep S (pr_a S) (pr_fv (rz_n q.1) S c + 1) (pr_fv (rz_n q.1) S c) < 8) := by
            rcases x5 with ⟨z1, z2, z3⟩ | ⟨k, s, z1, z2, z3, z4, z5, z6, z7, z8⟩
            · obtain ⟨-, -, ⟨b', y', c1, c2, c3, ⟨c4, c5, c6⟩, c7⟩, -⟩ := h2.2.1.1
              rw [c1] at z2
              rw [← Option.some.inj z2]
              refine ⟨c4, ?_⟩
              rw [c5, z3]
              exact ⟨fun u => absurd u (by decide), fun u => absurd (show (0 : Nat) < 8 by decide) u⟩
            · refine ⟨z4, ?_⟩
              rw [z7]
              have e := nI_eq (a := md_dep S (pr_a S) (pr_fv (rz_n q.1) S c + 1) (pr_fv (rz_n q.1) S c)) (b := 8) (by omega) (by decide)
              have e8 : nI 8 = 8 := rfl
              rw [e8] at e
              rw [e]
              omega
          refine blX3_onWhich_54 rfl x1 x4 kb.1 (fun w2 => ?_) (fun w2 => ?_)
          · have hdp : md_dep S (pr_a S) (pr_fv (rz_n q.1) S c + 1) (pr_fv (rz_n q.1) S c) < 8 := Decidable.byContradiction fun u => w2 (kb.2.2 u)
            refine blX3_onWhich_76 k12 (X3_scan_A (d := 7) h2.1 (Nat.le_refl 7)) (by show 7 + 1 ≤ d; omega) (Nat.le_refl _) ?_ (fun _ _ _ u => absurd u id)
            rintro v G3 ⟨rfl, r3, r4⟩
            obtain ⟨h3, p3⟩ := h2.scan r3 r4
            exact blX3_onWhich_80 ⟨⟨hnm, fun u => u.elim (fun u => u hlt) (fun u => h24 u), hdp⟩, rfl, h3, (p1.tr p2).tr p3⟩
          · refine blX3_onWhich_66 k12 (by rw [h2.1.2.2.1]; exact X3_fail_C (d := 0) h2.1.1) (by show 0 + 1 ≤ d; omega) (Nat.zero_le _) ?_ (fun _ _ _ u => absurd u id)
            rintro v G3 ⟨rfl, g1, g2⟩
            refine blX3_onWhich_75 rfl (by rw [g2]; decide) (by rw [g2]; decide) (wk_out0 rfl ⟨3, Or.inr (Or.inr ⟨hnm, fun u => u.elim (fun u => u hlt) (fun u => h24 u), kb.2.1 w2, rfl⟩), ?_⟩)
            rw [g2]
            exact erk2 g1
        · rw [x3] at w
          exact bad2 _ (Or.inr (Decidable.byContradiction fun u => w ((ty_bool h2.2.1.1.2.2.2.1).2 u)))
    · rw [if_neg hlt]
      exact blX3_onWhich_26 (fun y hy => by cases hy) (fun _ => bad2 _ (Or.inl hlt)) (fun _ hy => by cases hy)
  · have hnm := lx_b0.1 u
    refine blX3_onWhich_7 k11 (X3_misfit_C (d := 1) h1.1 (Nat.le_refl 1)) (by show 1 + 1 ≤ d; omega) (Nat.zero_le _) ?_ (fun _ _ _ u => absurd u id)
    rintro v G2 ⟨rfl, g1, g2⟩
    refine blX3_onWhich_11 rfl (by rw [g2]; decide) (by rw [g2]; decide) (wk_out0 rfl ⟨1, Or.inl ⟨hnm, rfl⟩, ?_⟩)
    rw [g2]
    exact erk g1
end
