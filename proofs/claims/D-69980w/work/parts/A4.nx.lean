/-! numbers of memories and calls, prices: making expressions keeps them -/
set_option maxRecDepth 100000
/-- how many memories an expression of the kind has; is it a call -/
def nx_s (s : Int32) : Nat := if s = 24 ∨ s = 5 ∨ s = 25 then 1 else if s = 6 then 2 else 0
def nx_q (s : Int32) : Nat := if s = 3 then 1 else 0
/-- the sum of g over the m expressions from p on -/
def nx_t (g : Int32 → Nat) (B : Nat → Int32) (p : Nat) : Nat → Nat
  | 0 => 0
  | m + 1 => nx_t g B p m + g (B (p + m))
theorem nx_t_cg {g : Int32 → Nat} {B B' : Nat → Int32} {p : Nat} : ∀ m, (∀ j, p ≤ j → j < p + m → B' j = B j) → nx_t g B' p m = nx_t g B p m := by
  intro m
  induction m with
  | zero => intro _; rfl
  | succ m ih =>
    intro h
    rw [nx_t, nx_t, ih (fun j a b => h j a (by omega)), h (p + m) (by omega) (by omega)]
theorem nx_t_add {g : Int32 → Nat} {B : Nat → Int32} {p m : Nat} : ∀ m2, nx_t g B p (m + m2) = nx_t g B p m + nx_t g B (p + m) m2 := by
  intro m2
  induction m2 with
  | zero => rfl
  | succ m2 ih =>
    rw [← Nat.add_assoc, nx_t, nx_t, ih, Nat.add_assoc, Nat.add_assoc]
def nx_E (S : MS) (p0 e : Nat) : Prop := (nx_s (S.2 32 e) ≠ 0 → S.2 37 e = nI (nx_t nx_s (S.2 32) p0 (e - p0))) ∧ (S.2 32 e = 3 → S.2 37 e = nI (nx_t nx_q (S.2 32) p0 (e - p0)))
/-- among the expressions of the node N, which begin at p0 -/
def nx_I (N p0 : Nat) (U : Nat → Nat → Int32) (S : MS) : Prop := pr_N S = N ∧ p0 ≤ pr_p S ∧ S.2 17 N = nI (nx_t nx_s (S.2 32) p0 (pr_p S - p0)) ∧ S.2 16 N = nI (nx_t nx_q (S.2 32) p0 (pr_p S - p0)) ∧ (∀ e, p0 ≤ e → e < pr_p S → nx_E S p0 e) ∧ (∀ e, e < pr_p S → S.2 38 e = nI (e + 1 - lw (S.2 34) e)) ∧ ∀ q j, q = 16 ∨ q = 17 → j < N → S.2 q j = U q j
theorem nx_I.cg {N p0 : Nat} {U : Nat → Nat → Int32} {S S' : MS} (h : nx_I N p0 U S) (h18 : S'.1 18 = S.1 18) (h40 : S'.1 40 = S.1 40) (h2 : ∀ q, q = 16 ∨ q = 17 ∨ q = 32 ∨ q = 34 ∨ q = 37 ∨ q = 38 → S'.2 q = S.2 q) : nx_I N p0 U S' := by
  obtain ⟨a1, a2, a3, a4, a5, a6, a7⟩ := h
  refine ⟨?_, ?_, ?_, ?_, ?_, ?_, fun q j hq hj => by rw [h2 q (by omega)]; exact a7 q j hq hj⟩
  · unfold pr_N; rw [h18]; exact a1
  · unfold pr_p; rw [h40]; exact a2
  · unfold pr_p; rw [h40, h2 17 (by omega), h2 32 (by omega)]; exact a3
  · unfold pr_p; rw [h40, h2 16 (by omega), h2 32 (by omega)]; exact a4
  · unfold pr_p nx_E; rw [h40, h2 32 (by omega), h2 37 (by omega)]; exact a5
  · unfold pr_p; rw [h40, h2 38 (by omega), h2 34 (by omega)]; exact a6
theorem pm_kids_38 {p : Nat} {B : Nat → Int32} : ∀ (ks : List Nat) (σ : MS), (∀ j, j ≠ p → σ.2 38 j = B j) → (∀ k ∈ ks, k ≠ p) → (ks.foldl (pm_kid p) σ).2 38 p = ks.foldl (fun x k => x + B k) (σ.2 38 p)
  | [], _, _, _ => rfl
  | k :: ks, σ, h, hk => by
    have hkp := hk k List.mem_cons_self
    have e1 : (pm_kid p σ k).2 38 p = σ.2 38 p + B k := by
      unfold pm_kid
      rw [ml_sa_a, if_neg (by omega), ml_sa_a, if_pos rfl, if_pos rfl, h k hkp]
    show (ks.foldl (pm_kid p) (pm_kid p σ k)).2 38 p = ks.foldl (fun x k => x + B k) (σ.2 38 p + B k)
    rw [pm_kids_38 ks (pm_kid p σ k) (fun j hj => (pm_kid_2 (Or.inr hj)).trans (h j hj)) (fun q hq => hk q (List.mem_cons_of_mem _ hq)), e1]
theorem px_sum {L : Nat → Nat} {B : Nat → Int32} {e l0 : Nat} : ∀ (ks : List Nat) (l : Nat), l0 ≤ l → pw_k L l ks e → (∀ k ∈ ks, B k = nI (k + 1 - L k)) → ks.foldl (fun x k => x + B k) (nI (1 + (l - l0))) = nI (1 + (e - l0))
  | [], l, _, h, _ => by
    have : l = e := h
    subst this
    rfl
  | k :: ks, l, hl, h, hB => by
    obtain ⟨h1, h2, h3, h4⟩ := h
    show ks.foldl (fun x k => x + B k) (nI (1 + (l - l0)) + B k) = _
    rw [hB k List.mem_cons_self, h1, nI_add]
    have e1 : 1 + (l - l0) + (k + 1 - l) = 1 + (k + 1 - l0) := by omega
    rw [e1]
    exact px_sum ks (k + 1) (by omega) h4 (fun q hq => hB q (List.mem_cons_of_mem _ hq))
theorem pr_make_eq {S S' : MS} {kind what : Int32} {ks : List Nat} {c p e c' : Nat} (h : pr_make S kind what ks c = some (.inr (e, c', S'))) (hp : S.1 40 = nI p) (hp2 : p < 2 ^ 31) : S' = pm_fin (pr_N S) kind p (pm_mk S p kind what ks) := by
  have e1 : pr_p S = p := by rw [pr_p, hp, nI_clamp hp2]
  unfold pr_make at h
  rw [e1] at h
  split at h
  · have h' := Sum.inr.inj (Option.some.inj h)
    cases h'
    rfl
  · cases h
/-- the price of an expression that is made -/
theorem pm_mk_38 {S : MS} {kind what : Int32} {ks : List Nat} {lo p : Nat} (hk : pw_k (lw (S.2 34)) lo ks p) (hB : ∀ e, e < p → S.2 38 e = nI (e + 1 - lw (S.2 34) e)) : (pm_mk S p kind what ks).2 38 p = nI (1 + (p - lo)) := by
  have hm := (pw_k_mem ks lo hk).2
  unfold pm_mk
  rw [pm_kids_38 (B := S.2 38) ks _ (fun j hj => pm_0_2 (Or.inl hj)) (fun k hk => by have := hm k hk; omega)]
  have e0 : (pm_0 S p kind what (pm_first ks)).2 38 p = nI (1 + (lo - lo)) := by
    unfold pm_0
    rw [ml_sa_a, if_neg (by omega), ml_sa_a, if_pos rfl, if_pos rfl, Nat.sub_self]
    rfl
  rw [e0]
  exact px_sum ks lo (Nat.le_refl _) hk (fun k hk => hB k (hm k hk).2)
/-- one expression more: its numbers -/
theorem nx_I.mk {N p0 lo p : Nat} {U : Nat → Nat → Int32} {S S' : MS} {kind what : Int32} {ks : List Nat} (h : nx_I N p0 U S) (hp : S.1 40 = nI p) (hp2 : p < 2 ^ 30) (hlo : lo ≤ p) (hM : pe_M S S' p kind what ks) (hk : pw_k (lw (S.2 34)) lo ks p)
    (h17 : S'.2 17 N = S.2 17 N + nI (nx_s kind)) (h16 : S'.2 16 N = S.2 16 N + nI (nx_q kind)) (hs : nx_s kind ≠ 0 → S'.2 37 p = S.2 17 N) (hq : kind = 3 → S'.2 37 p = S.2 16 N) (h38 : S'.2 38 p = nI (1 + (p - lo))) (ho : ∀ q j, q = 16 ∨ q = 17 → j < N → S'.2 q j = S.2 q j) : nx_I N p0 U S' := by
  obtain ⟨a1, a2, a3, a4, a5, a6, a7⟩ := h
  obtain ⟨g3, g4, g5, g6, g7, g8, g9, g10⟩ := hM
  have e1 : pr_p S = p := by rw [pr_p, hp, nI_clamp (by omega)]
  have e2 : pr_p S' = p + 1 := by rw [pr_p, g4, nI_clamp (by omega)]
  rw [e1] at a2 a3 a4 a5 a6
  have e32 : ∀ g : Int32 → Nat, ∀ m, m ≤ p - p0 → nx_t g (S'.2 32) p0 m = nx_t g (S.2 32) p0 m := fun g m hm => nx_t_cg m (fun j x y => g5 32 j (by omega) (by omega) (by omega))
  have e33 : ∀ g : Int32 → Nat, nx_t g (S'.2 32) p0 (p + 1 - p0) = nx_t g (S.2 32) p0 (p - p0) + g kind := fun g => by
    rw [show p + 1 - p0 = (p - p0) + 1 by omega, nx_t, e32 g _ (Nat.le_refl _), show p0 + (p - p0) = p by omega, g6]
  have hlw : ∀ k, k < p → lw (S'.2 34) k = lw (S.2 34) k := fun k hk' => lw_cg (p - 1) k (by omega) (fun j hj => g5 34 j (by omega) (by omega) (by omega))
  have hL : lw (S'.2 34) p = lo := by
    match ks, hk, g8 with
    | [], hk, g8 =>
      rw [lw_0 (by rw [g8]; decide)]
      exact hk.symm
    | k :: ks, hk, g8 =>
      rw [lw_1 (k := k) (by rw [g8]; rfl) hk.2.2.1 (by omega), hlw k hk.2.2.1]
      exact hk.1
  refine ⟨by rw [g3.N]; exact a1, by omega, ?_, ?_, fun e h1 h2 => ?_, fun e h2 => ?_, fun q j hq hj => by rw [ho q j hq hj]; exact a7 q j hq hj⟩
  · rw [h17, a3, e2, e33, nI_add]
  · rw [h16, a4, e2, e33, nI_add]
  · rw [e2] at h2
    unfold nx_E
    rw [e32 _ (e - p0) (by omega), e32 _ (e - p0) (by omega)]
    rcases Nat.lt_or_ge e p with q | q
    · rw [g5 32 e (by omega) (by omega) (by omega), g5 37 e (by omega) (by omega) (by omega)]
      exact a5 e h1 q
    · have : e = p := by omega
      subst this
      rw [g6, ← a3, ← a4]
      exact ⟨hs, hq⟩
  · rw [e2] at h2
    rcases Nat.lt_or_ge e p with q | q
    · rw [g5 38 e (by omega) (by omega) (by omega), hlw e q]
      exact a6 e q
    · have : e = p := by omega
      subst this
      rw [h38, hL]
      congr 1
      omega
theorem nx_cl {n N p0 : Nat} {U : Nat → Nat → Int32} : n ≤ 65536 → pc_cl n (nx_I N p0 U) := fun hn => by
  refine ⟨fun S a v h => h.cg rfl rfl (fun q hq => funext fun j => by rw [ml_sa_a, if_neg (by omega)]), ?_, ?_⟩
  · intro S S' kind what ks lo p c hp hpn hlo hV hkd hw hch hk hs hmk hM h
    have e1 : pr_p S = p := by rw [pr_p, hp, nI_clamp (by omega)]
    have hS' := pr_make_eq hmk hp (by omega)
    have eN : pr_N S = N := h.1
    rw [eN] at hS'
    have m17 : (pm_mk S p kind what ks).2 17 N = S.2 17 N := pm_mk_2 (Or.inr (by omega))
    refine h.mk hp (by omega) hlo hM hk ?_ ?_ ?_ (fun u => absurd u hkd) ?_ ?_
    · rw [hS']
      unfold pm_fin nx_s
      split
      · rw [ml_sa_a, if_neg (by omega), ml_sa_a, if_pos rfl, if_pos rfl, m17]
        rfl
      · split
        · rw [ml_sa_a, if_pos rfl, if_pos rfl, ml_sa_a, if_neg (by omega), m17]
          rfl
        · rw [m17]
          exact (Int32.add_zero _).symm
    · rw [hS', nx_q, if_neg hkd, pm_fin_2 ⟨by omega, Or.inl (by omega)⟩, pm_mk_2 (Or.inr (by omega))]
      exact (Int32.add_zero _).symm
    · rw [hS']
      unfold pm_fin nx_s
      split
      · intro _
        rw [ml_sa_a, if_pos rfl, if_pos rfl, m17]
      · split
        · intro _
          rw [ml_sa_a, if_neg (by omega), ml_sa_a, if_pos rfl, if_pos rfl, m17]
        · intro u
          exact absurd rfl u
    · rw [hS', pm_fin_2 ⟨by omega, Or.inl (by omega)⟩]
      exact pm_mk_38 hk (fun e he => h.2.2.2.2.2.1 e (by omega))
    · intro q j hq hj
      rw [hS']
      unfold pm_fin
      split
      · rw [ml_sa_a, if_neg (by omega), ml_sa_a]
        split
        · rw [if_neg (by omega), pm_mk_2 (Or.inr (by omega))]
        · rw [pm_mk_2 (Or.inr (by omega))]
      · split
        · rw [ml_sa_a]
          split
          · rw [if_neg (by omega), ml_sa_a, if_neg (by omega), pm_mk_2 (Or.inr (by omega))]
          · rw [ml_sa_a, if_neg (by omega), pm_mk_2 (Or.inr (by omega))]
        · rw [pm_mk_2 (Or.inr (by omega))]
  · intro S S' k ks lo p c hp hpn hlo hV hw hch hk hs hmk hM h
    have e1 : pr_p S = p := by rw [pr_p, hp, nI_clamp (by omega)]
    have eN : pr_N S = N := h.1
    unfold pr_call at hmk
    obtain ⟨e2, c2, S2, h2, h3⟩ := pr_b_ok hmk
    obtain ⟨q1, q2, hM2⟩ := pr_make_ok h2 hp (by omega)
    have q1 : e2 = p := q1
    have h' := Sum.inr.inj (Option.some.inj h3)
    have h3 : S' = pm_cl S2 (pr_N S2) e2 := (congrArg (fun x => x.2.2) h').symm
    have hS2 := pr_make_eq h2 hp (by omega)
    have hf : S2 = pm_mk S p 3 (nI k) ks := by
      rw [hS2]
      unfold pm_fin
      rw [if_neg (by decide), if_neg (by decide)]
    have eN2 : pr_N S2 = N := by rw [hM2.1.N]; exact eN
    rw [eN2, q1, hf] at h3
    unfold pm_cl at h3
    have m16 : (pm_mk S p 3 (nI k) ks).2 16 N = S.2 16 N := pm_mk_2 (Or.inr (by omega))
    refine h.mk hp (by omega) hlo hM hk ?_ ?_ (fun u => absurd rfl u) (fun _ => ?_) ?_ ?_
    · rw [h3, ml_sa_a, if_neg (by omega), ml_sa_a, if_neg (by omega), pm_mk_2 (Or.inr (by omega))]
      exact (Int32.add_zero _).symm
    · rw [h3, ml_sa_a, if_neg (by omega), ml_sa_a, if_pos rfl, if_pos rfl, m16]
      rfl
    · rw [h3, ml_sa_a, if_pos rfl, if_pos rfl, m16]
    · rw [h3, ml_sa_a, if_neg (by omega), ml_sa_a, if_neg (by omega)]
      exact pm_mk_38 hk (fun e he => h.2.2.2.2.2.1 e (by omega))
    · intro q j hq hj
      rw [h3, ml_sa_a, if_neg (by omega), ml_sa_a]
      split
      · rw [if_neg (by omega), pm_mk_2 (Or.inr (by omega))]
      · rw [pm_mk_2 (Or.inr (by omega))]
/-! equations keep them -/
theorem pe_left_nx {T : Nat → Int32} {n N p0 c e c' : Nat} {U : Nat → Nat → Int32} {S S' : MS} (h : pe_left T n c S = some (.inr (e, c', S'))) (hI : nx_I N p0 U S) : nx_I N p0 U S' := by
  obtain ⟨-, -, -, x, rfl, -, -⟩ := pe_left_ok h
  exact hI.cg rfl rfl (fun q hq => funext fun j => by
    unfold pl_S
    rw [ml_sa_a, if_neg (by omega), ml_sa_a, if_neg (by omega)]
    rfl)
theorem pe_lefts_nx {T : Nat → Int32} {n N p0 : Nat} {U : Nat → Nat → Int32} : ∀ f c S e c' S', pe_lefts T n f c S = some (.inr (e, c', S')) → nx_I N p0 U S → nx_I N p0 U S' := by
  intro f
  induction f with
  | zero => intro c S e c' S' h; cases h
  | succ f ih =>
    intro c S e c' S' h hI
    unfold pe_lefts at h
    split at h
    · obtain ⟨e1, c1, S1, h1, h⟩ := pr_b_ok h
      exact ih _ _ _ _ _ h (pe_left_nx h1 hI)
    · have h' := Sum.inr.inj (Option.some.inj h)
      cases h'
      exact hI
theorem pe_M1.rhs_nx {T : Nat → Int32} {n N p0 f m a k c1 e c2 : Nat} {U : Nat → Nat → Int32} {S S1 S2 : MS} (h : pe_M1 n S k c1 S1) (h2 : pp T n f m 0 a [] c1 S1 = some (.inr (e, c2, S2))) (hm : m = 0 ∨ m = 14) (ha : m = 14 → a < pr_N S1) (hI : nx_I N p0 U S1) : nx_I N p0 U (ml_sa S2 27 k (nI e)) := by
  obtain ⟨⟨hV, b1, b2, b3, b4, b5, b6, b7, b8, b9, b10⟩, a3, a4, a5, a6, a7, a8, a9, a10, a11⟩ := h
  have hR := ((pp_ok (T := T) (n := n) (nx_cl (N := N) (p0 := p0) (U := U) hV.1) f).main h2 (by omega) b3 b4 b1 hV ha).2 hI
  exact hR.cg rfl rfl (fun q hq => funext fun j => by rw [ml_sa_a, if_neg (by omega)])
theorem pe_eq_nx {T : Nat → Int32} {n N p0 f c e9 c' : Nat} {U : Nat → Nat → Int32} {S S' : MS} (h : pe_eq T n f c S = some (.inr (e9, c', S'))) (hE : pn_E n c S) (hI : nx_I N p0 U S) : nx_I N p0 U S' := by
  unfold pe_eq at h
  obtain ⟨e1, c1, S1, h1, h2⟩ := pr_b_ok h
  have hE0 := pe_0_E hE
  have hI0 : nx_I N p0 U (pe_0 S (pr_k S) c) := hI.cg rfl rfl (fun q hq => funext fun j => by
    unfold pe_0
    rw [ml_sa_a, if_neg (by omega), ml_sa_a, if_neg (by omega), ml_sa_a, if_neg (by omega)])
  have fin : ∀ S1, nx_I N p0 U S1 → pe_end T n (pr_k S) c1 S1 = some (.inr (e9, c', S')) → nx_I N p0 U S' := by
    intro S1 hI1 h2
    unfold pe_end at h2
    split at h2
    · have h' := Sum.inr.inj (Option.some.inj h2)
      cases h'
      exact hI1.cg rfl rfl (fun q hq => funext fun j => by
        rw [ml_sa_a, if_neg (by omega)]
        rfl)
    · cases h2
  refine fin S1 ?_ h2
  split at h1
  · rename_i g
    obtain ⟨t1, t2⟩ := lx_tk (T := T) (n := n) (c := c) (by rw [g]; decide)
    unfold pe_many at h1
    obtain ⟨e2, c2, S2, h3, h1⟩ := pr_b_ok h1
    have hE1 : pn_E n (lx_next T n c) (pe_0 S (pr_k S) c) := by
      obtain ⟨hV, b1, b2, b3, b4, b5, b6, b7, b8, b9⟩ := hE0
      exact ⟨hV, t2, b2, b3, by omega, b5, by omega, b7, by omega, b9⟩
    obtain ⟨-, q1, q2, hR⟩ := pe_left_R h3 hE1
    have hI2 := pe_left_nx h3 hI0
    obtain ⟨e3, c3, S3, h4, h1⟩ := pr_b_ok h1
    obtain ⟨-, hR2⟩ := pe_lefts_R _ _ _ _ _ _ h4 hR.1
    have hI3 := pe_lefts_nx _ _ _ _ _ _ h4 hI2
    have hR3 := hR.tr hR2
    have hl3 : pr_l (pe_0 S (pr_k S) c) < pr_l S3 := by have := hR2.2.2.2.2.2.1; omega
    have hM : pe_M1 n (pe_0 S (pr_k S) c) (pr_k S) c3 S3 := hR3.M hl3
    split at h1
    · rename_i g4
      obtain ⟨t3, t4⟩ := lx_tk (T := T) (n := n) (c := c3) (by rw [g4]; decide)
      split at h1
      · rename_i g5
        obtain ⟨t5, t6⟩ := lx_tk (T := T) (n := n) (c := lx_next T n c3) (by rw [g5]; decide)
        split at h1
        · cases h1
        rename_i g6
        obtain ⟨t7, t8⟩ := lx_tkn (Decidable.not_not.1 g6)
        split at h1
        · rename_i g7
          obtain ⟨e4, c4, S4, h5, h1⟩ := pr_b_ok h1
          have hM1 := hM.step (c2 := lx_next T n (lx_next T n (lx_next T n c3))) (by omega) t8
          have hI4 := hM1.rhs_nx h5 (Or.inr rfl) (fun _ => g7) hI3
          have h' := Sum.inr.inj (Option.some.inj h1)
          cases h'
          exact hI4
        · cases h1
      · cases h1
    · cases h1
  · rename_i g
    unfold pe_one at h1
    obtain ⟨e2, c2, S2, h3, h1⟩ := pr_b_ok h1
    obtain ⟨-, q1, q2, hR⟩ := pe_left_R h3 hE0
    have hI2 := pe_left_nx h3 hI0
    have hM : pe_M1 n (pe_0 S (pr_k S) c) (pr_k S) c2 S2 := hR.M (by omega)
    split at h1
    · rename_i g4
      obtain ⟨t3, t4⟩ := lx_tk (T := T) (n := n) (c := c2) (by rw [g4]; decide)
      obtain ⟨e4, c4, S4, h5, h1⟩ := pr_b_ok h1
      have hM1 := hM.step (c2 := lx_next T n c2) (by omega) t4
      have hI4 := hM1.rhs_nx h5 (Or.inl rfl) (fun e => absurd e (by omega)) hI2
      have h' := Sum.inr.inj (Option.some.inj h1)
      cases h'
      exact hI4
    · cases h1
