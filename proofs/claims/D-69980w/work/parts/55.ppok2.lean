/-! what a parse leaves: the induction -/
set_option maxRecDepth 100000
/-- the forest with p on top -/
theorem pe_M.pw {S S' : MS} {lo p : Nat} {kind what : Int32} {ks : List Nat} (h : pe_M S S' p kind what ks) (hp : p < 2 ^ 30) (hlo : lo ≤ p) (hw : pw S lo p) (hch : md_ch (S.2 35) (pm_first ks) ks) (hk : pw_k (lw (S.2 34)) lo ks p) (hs : pw_s S kind what ks.length) :
    lw (S'.2 34) p = lo ∧ pw S' lo (p + 1) := by
  obtain ⟨g3, g4, g5, g6, g7, g8, g9, g10⟩ := h
  have hlw : ∀ k, k < p → lw (S'.2 34) k = lw (S.2 34) k := fun k hk' => lw_cg (p - 1) k (by omega) (fun j hj => g5 34 j (by omega) (by omega) (by omega))
  have hL : lw (S'.2 34) p = lo := by
    match ks, hk, g8 with
    | [], hk, g8 =>
      rw [lw_0 (by rw [g8]; decide)]
      exact hk.symm
    | k :: ks, hk, g8 =>
      rw [lw_1 (k := k) (by rw [g8]; rfl) hk.2.2.1 (by omega), hlw k hk.2.2.1]
      exact hk.1
  refine ⟨hL, fun e h1 h2 => ?_⟩
  rcases Nat.lt_or_ge e p with he | he
  · exact (hw.cg g3 (fun q j a b c => g5 q j a (by omega) (by omega)) (fun j a b => g5 35 j (by omega) (by omega) (by omega))) e h1 he
  · have e1 : e = p := by omega
    subst e1
    refine ⟨by rw [hL]; exact Nat.le_refl _, ks, ?_, ?_, ?_⟩
    · rw [g8]
      refine md_ch_cg ks _ (fun k hk' => ?_) hch
      have := (pw_k_mem ks _ hk).2 k hk'
      exact (g5 35 k (by omega) (by omega) (by omega)).symm
    · rw [hL]
      exact pw_k_cg ks _ (fun k hk' => (hlw k hk').symm) hk
    · rw [g6, g7]
      exact hs.same g3
/-- names: those of variables and nodes lie on the tape; clocks go down -/
def pe_V (n : Nat) (S : MS) : Prop := n ≤ 65536 ∧ ∃ N a b, S.1 18 = nI N ∧ N < 60 ∧ S.1 19 = nI b ∧ b ≤ 6000 ∧ S.2 12 N = nI a ∧ a ≤ b ∧ lx_ok S n 20 21 b ∧ lx_ok S n 10 11 N ∧ md_ck S a b
theorem pe_V.same {n : Nat} {S S' : MS} (h : pe_V n S) (e : pe_same S S') : pe_V n S' := by
  obtain ⟨hn, N, a, b, h1, h2, h3, h4, h5, h6, h7, h8, h9⟩ := h
  have q : ∀ k, k ≠ 16 → k ≠ 17 → ¬ (32 ≤ k ∧ k ≤ 39) → S'.2 k = S.2 k := e.2
  refine ⟨hn, N, a, b, by rw [e.1 18 (by omega)]; exact h1, h2, by rw [e.1 19 (by omega)]; exact h3, h4, by rw [q 12 (by omega) (by omega) (by omega)]; exact h5, h6, ?_, ?_, ?_⟩
  · intro i hi
    rw [q 20 (by omega) (by omega) (by omega), q 21 (by omega) (by omega) (by omega)]
    exact h7 i hi
  · intro i hi
    rw [q 10 (by omega) (by omega) (by omega), q 11 (by omega) (by omega) (by omega)]
    exact h8 i hi
  · intro v hv hv2
    rw [q 22 (by omega) (by omega) (by omega)]
    exact h9 v hv hv2
theorem pe_V.N {n : Nat} {S : MS} (h : pe_V n S) : S.1 18 = nI (pr_N S) ∧ pr_N S < 60 ∧ S.1 19 = nI (pr_v S) ∧ pr_v S ≤ 6000 ∧ S.2 12 (pr_N S) = nI (pr_a S) ∧ pr_a S ≤ pr_v S ∧ lx_ok S n 20 21 (pr_v S) ∧ lx_ok S n 10 11 (pr_N S) ∧ md_ck S (pr_a S) (pr_v S) := by
  obtain ⟨hn, N, a, b, h1, h2, h3, h4, h5, h6, h7, h8, h9⟩ := h
  have e1 : pr_N S = N := by rw [pr_N, h1, nI_clamp (by omega)]
  have e2 : pr_v S = b := by rw [pr_v, h3, nI_clamp (by omega)]
  have e3 : pr_a S = a := by rw [pr_a, e1, h5, nI_clamp (by omega)]
  rw [e1, e2, e3]
  exact ⟨h1, h2, h3, h4, h5, h6, h7, h8, h9⟩
/-- what a parse from the place c with p expressions leaves: the expression e, over all from lo on -/
def pe_R (n : Nat) (S : MS) (lo p c e c' : Nat) (S' : MS) : Prop :=
  pe_same S S' ∧ S'.1 40 = nI (e + 1) ∧ p ≤ e + 1 ∧ lo ≤ e ∧ S'.2 35 e = -1 ∧ c ≤ c' ∧ c' ≤ n ∧ e + 1 + c ≤ p + c' ∧ (∀ q j, 32 ≤ q → q ≤ 39 → j < lo → S'.2 q j = S.2 q j) ∧ lw (S'.2 34) e = lo ∧ pw S' lo (e + 1)
/-- what a parser of the kind m asks -/
def pp_pre (n m a : Nat) (l : List Nat) (lo p c : Nat) (S : MS) : Prop :=
  S.1 40 = nI p ∧ p ≤ c ∧ c ≤ n ∧ pe_V n S ∧
  (if m = 3 ∨ m = 5 ∨ m = 8 ∨ m = 10 ∨ m = 12 then a + 1 = p ∧ lo ≤ a ∧ lw (S.2 34) a = lo ∧ pw S lo p ∧ S.2 35 a = -1
   else if m = 15 then a < pr_N S ∧ l ≠ [] ∧ pw_k (lw (S.2 34)) lo l p ∧ md_ch (S.2 35) (pm_first l) l ∧ pw S lo p else lo = p ∧ (m = 14 → a < pr_N S))
/-- a property of states that making expressions keeps -/
def pc_cl (n : Nat) (Inv : MS → Prop) : Prop :=
  (∀ S a v, Inv S → Inv (ml_sa S 35 a v)) ∧
  (∀ S S' kind what ks lo p c, S.1 40 = nI p → p < n → lo ≤ p → pe_V n S → kind ≠ 3 → pw S lo p → md_ch (S.2 35) (pm_first ks) ks → pw_k (lw (S.2 34)) lo ks p → pw_s S kind what ks.length → pr_make S kind what ks c = some (.inr (p, c, S')) → pe_M S S' p kind what ks → Inv S → Inv S') ∧
  (∀ S S' k ks lo p c, S.1 40 = nI p → p < n → lo ≤ p → pe_V n S → pw S lo p → md_ch (S.2 35) (pm_first ks) ks → pw_k (lw (S.2 34)) lo ks p → pw_s S 3 (nI k) ks.length → pr_call S k ks c = some (.inr (p, c, S')) → pe_M S S' p 3 (nI k) ks → Inv S → Inv S')
def pp_IH (n : Nat) (Inv : MS → Prop) (rec : PF) : Prop := ∀ m d a l c S lo p e c' S', rec m d a l c S = some (.inr (e, c', S')) → pp_pre n m a l lo p c S → pe_R n S lo p c e c' S' ∧ (Inv S → Inv S')
theorem lx_kind_lt {T : Nat → Int32} {n c : Nat} (h : lx_kind T n c ≠ 0) : c < n := by
  unfold lx_kind at h
  split at h
  · exact absurd rfl h
  · omega
theorem lx_tk {T : Nat → Int32} {n c : Nat} (h : lx_kind T n c ≠ 0) : c + 1 ≤ lx_next T n c ∧ lx_next T n c ≤ n := ⟨lx_next_gt (lx_kind_lt h), (lx_next_ge (Nat.le_of_lt (lx_kind_lt h))).2⟩
theorem lx_tkw {T : Nat → Int32} {n c : Nat} {tx : String} (h : lx_isW T n c tx) : c + 1 ≤ lx_next T n c ∧ lx_next T n c ≤ n := lx_tk (by rw [h.1]; decide)
theorem lx_tkn {T : Nat → Int32} {n c : Nat} (h : lx_name T n c) : c + 1 ≤ lx_next T n c ∧ lx_next T n c ≤ n := lx_tk (by rw [h.1]; decide)
section
variable {T : Nat → Int32} {n : Nat} {rec : PF} {Inv : MS → Prop}
/-- from a parse of the plain kinds -/
theorem pp_IH.main {m d a c p : Nat} {S : MS} {q : Nat × Nat × MS} {l : List Nat} (ih : pp_IH n Inv rec) (h : rec m d a l c S = some (.inr q)) (hm : ¬ (m = 3 ∨ m = 5 ∨ m = 8 ∨ m = 10 ∨ m = 12) ∧ m ≠ 15) (hp : S.1 40 = nI p) (hpc : p ≤ c) (hcn : c ≤ n) (hV : pe_V n S) (ha : m = 14 → a < pr_N S) : pe_R n S p p c q.1 q.2.1 q.2.2 ∧ (Inv S → Inv q.2.2) := by
  obtain ⟨e, c', S'⟩ := q
  refine ih m d a l c S p p e c' S' h ⟨hp, hpc, hcn, hV, ?_⟩
  rw [if_neg hm.1, if_neg hm.2]
  exact ⟨rfl, ha⟩
/-- two parts and the expression over them -/
theorem pp_two {S S1 S2 : MS} {lo p c a c1 c2 b c3 : Nat} {kind : Int32} {q : Nat × Nat × MS} (hcl : pc_cl n Inv) (hn : n ≤ 65536) (hc : p ≤ c) (h1 : pe_R n S lo p c a c1 S1) (hc2 : c1 + 1 ≤ c2) (h2 : pe_R n S1 (a + 1) (a + 1) c2 b c3 S2) (hV : pe_V n S) (hk : 5 ≤ kind ∧ kind ≤ 21)
    (h : pr_two S2 kind a b c3 = some (.inr q)) (i1 : Inv S → Inv S1) (i2 : Inv S1 → Inv S2) : pe_R n S lo p c q.1 q.2.1 q.2.2 ∧ (Inv S → Inv q.2.2) := by
  obtain ⟨s1, x1, y1, z1, r1, u1, v1, w1, f1, l1, t1⟩ := h1
  obtain ⟨s2, x2, y2, z2, r2, u2, v2, w2, f2, l2, t2⟩ := h2
  have sb : pe_same S2 (ml_sa S2 35 a (nI b)) := ⟨fun k _ => rfl, fun k _ _ h3 => by
    funext j
    rw [ml_sa_a, if_neg (by omega)]⟩
  have hB : ∀ j, j ≠ a → (ml_sa S2 35 a (nI b)).2 35 j = S2.2 35 j := fun j hj => by rw [ml_sa_a, if_pos rfl, if_neg hj]
  have hBa : (ml_sa S2 35 a (nI b)).2 35 a = nI b := by rw [ml_sa_a, if_pos rfl, if_pos rfl]
  have hq : ∀ q j, q ≠ 35 → (ml_sa S2 35 a (nI b)).2 q j = S2.2 q j := fun q j hq => by rw [ml_sa_a, if_neg hq]
  have hK : (ml_sa S2 35 a (nI b)).2 34 = S2.2 34 := funext fun j => hq 34 j (by omega)
  have hsame : pe_same S (ml_sa S2 35 a (nI b)) := (s1.tr s2).tr sb
  have hx : (ml_sa S2 35 a (nI b)).1 40 = nI (b + 1) := x2
  obtain ⟨q1, q2, hM⟩ := pr_make_ok h hx (by omega)
  -- the forests
  have hlwa : lw (S2.2 34) a = lo := by
    rw [← l1]
    exact lw_cg a a (Nat.le_refl a) (fun j hj => f2 34 j (by omega) (by omega) (by omega))
  have hA : pw S2 lo (a + 1) := t1.cg s2 (fun q j a1 a2 a3 => f2 q j a1 (by omega) a3) (fun j a1 a2 => f2 35 j (by omega) (by omega) (by omega))
  have hA' : pw (ml_sa S2 35 a (nI b)) lo (a + 1) := hA.cg sb (fun q j a1 a2 _ => hq q j (by omega)) (fun j a1 a2 => hB j (by omega))
  have hB' : pw (ml_sa S2 35 a (nI b)) (a + 1) (b + 1) := t2.cg sb (fun q j a1 a2 _ => hq q j (by omega)) (fun j a1 a2 => hB j (by omega))
  have hAB : pw (ml_sa S2 35 a (nI b)) lo (b + 1) := hA'.cat hB' (by omega)
  have hch : md_ch ((ml_sa S2 35 a (nI b)).2 35) (pm_first [a, b]) [a, b] := by
    refine ⟨rfl, ?_⟩
    rw [hBa]
    refine ⟨rfl, ?_⟩
    rw [hB b (by omega), r2]
    show (-1 : Int32) < 0
    decide
  have hpk : pw_k (lw ((ml_sa S2 35 a (nI b)).2 34)) lo [a, b] (b + 1) := by
    rw [hK]
    exact ⟨hlwa, z1, by omega, l2, z2, by omega, rfl⟩
  have hs : pw_s (ml_sa S2 35 a (nI b)) kind 0 [a, b].length := Or.inr (Or.inr (Or.inr (Or.inr (Or.inr (Or.inl ⟨hk.1, hk.2, rfl⟩)))))
  have hk3 : kind ≠ 3 := fun e => by rw [e] at hk; exact absurd hk.1 (by decide)
  obtain ⟨hL, hW⟩ := hM.pw (by omega) (by omega) hAB hch hpk hs
  obtain ⟨e, c', S'⟩ := q
  have q1' : e = b + 1 := q1
  have q2' : c' = c3 := q2
  subst q1' q2'
  refine ⟨⟨hsame.tr hM.1, hM.2.1, by omega, by omega, hM.2.2.2.2.2.2.1, by omega, v2, by omega, fun q j a1 a2 a3 => ?_, hL, hW⟩, fun i => ?_⟩
  · rw [hM.2.2.1 q j a1 a2 (by omega)]
    rcases Decidable.em (q = 35) with e35 | e35
    · subst e35
      rw [hB j (by omega), f2 35 j a1 a2 (by omega), f1 35 j a1 a2 a3]
    · rw [hq q j e35, f2 q j a1 a2 (by omega), f1 q j a1 a2 a3]
  · exact hcl.2.1 _ _ _ _ _ _ _ _ hx (by omega) (by omega) (hV.same hsame) hk3 hAB hch hpk hs h hM (hcl.1 _ _ _ (i2 (i1 i)))
/-- one part and the expression over it -/
theorem pp_one {S S1 : MS} {lo p c a c1 c2 : Nat} {kind what : Int32} {q : Nat × Nat × MS} (hcl : pc_cl n Inv) (hn : n ≤ 65536) (hc : p ≤ c) (h1 : pe_R n S lo p c a c1 S1) (hc2 : c1 ≤ c2) (hc3 : c2 ≤ n) (hroom : a + 2 + c ≤ p + c2) (hV : pe_V n S) (hk : kind ≠ 3) (hs : pw_s S1 kind what 1)
    (h : pr_make S1 kind what [a] c2 = some (.inr q)) (i1 : Inv S → Inv S1) : pe_R n S lo p c q.1 q.2.1 q.2.2 ∧ (Inv S → Inv q.2.2) := by
  obtain ⟨s1, x1, y1, z1, r1, u1, v1, w1, f1, l1, t1⟩ := h1
  obtain ⟨q1, q2, hM⟩ := pr_make_ok h x1 (by omega)
  have hch : md_ch (S1.2 35) (pm_first [a]) [a] := by
    refine ⟨rfl, ?_⟩
    rw [r1]
    show (-1 : Int32) < 0
    decide
  have hpk : pw_k (lw (S1.2 34)) lo [a] (a + 1) := ⟨l1, z1, by omega, rfl⟩
  obtain ⟨hL, hW⟩ := hM.pw (by omega) (by omega) t1 hch hpk hs
  obtain ⟨e, c', S'⟩ := q
  have q1' : e = a + 1 := q1
  have q2' : c' = c2 := q2
  subst q1' q2'
  refine ⟨⟨s1.tr hM.1, hM.2.1, by omega, by omega, hM.2.2.2.2.2.2.1, by omega, hc3, by omega, fun q j a1 a2 a3 => ?_, hL, hW⟩, fun i => ?_⟩
  · rw [hM.2.2.1 q j a1 a2 (by omega), f1 q j a1 a2 a3]
  · exact hcl.2.1 _ _ _ _ _ _ _ _ x1 (by omega) (by omega) (hV.same s1) hk t1 hch hpk hs h hM (i1 i)
/-- an expression without parts -/
theorem pp_leaf {S : MS} {p c c2 : Nat} {kind what : Int32} {q : Nat × Nat × MS} (hcl : pc_cl n Inv) (hn : n ≤ 65536) (hp : S.1 40 = nI p) (hc : p ≤ c) (hc2 : c + 1 ≤ c2) (hc3 : c2 ≤ n) (hV : pe_V n S) (hk : kind ≠ 3) (hs : pw_s S kind what 0)
    (h : pr_make S kind what [] c2 = some (.inr q)) : pe_R n S p p c q.1 q.2.1 q.2.2 ∧ (Inv S → Inv q.2.2) := by
  obtain ⟨q1, q2, hM⟩ := pr_make_ok h hp (by omega)
  have hw : pw S p p := fun e h1 h2 => by omega
  have hch : md_ch (S.2 35) (pm_first []) [] := by
    show (-1 : Int32) < 0
    decide
  obtain ⟨hL, hW⟩ := hM.pw (by omega) (Nat.le_refl p) hw hch (show pw_k (lw (S.2 34)) p [] p from rfl) hs
  obtain ⟨e, c', S'⟩ := q
  have q1' : e = p := q1
  have q2' : c' = c2 := q2
  subst q1' q2'
  exact ⟨⟨hM.1, hM.2.1, by omega, by omega, hM.2.2.2.2.2.2.1, by omega, hc3, by omega, fun q j a1 a2 a3 => hM.2.2.1 q j a1 a2 (by omega), hL, hW⟩, fun i => hcl.2.1 _ _ _ _ _ _ _ _ hp (by omega) (Nat.le_refl _) hV hk hw hch rfl hs h hM i⟩
theorem pe_R.tr {S S1 S2 : MS} {lo p c a c1 c2 e c3 : Nat} (h1 : pe_R n S lo p c a c1 S1) (hc : c1 ≤ c2) (h2 : pe_R n S1 lo (a + 1) c2 e c3 S2) : pe_R n S lo p c e c3 S2 := by
  obtain ⟨s1, x1, y1, z1, r1, u1, v1, w1, f1, l1, t1⟩ := h1
  obtain ⟨s2, x2, y2, z2, r2, u2, v2, w2, f2, l2, t2⟩ := h2
  exact ⟨s1.tr s2, x2, by omega, z2, r2, by omega, v2, by omega, fun q j a1 a2 a3 => (f2 q j a1 a2 a3).trans (f1 q j a1 a2 a3), l2, t2⟩
/-- what a loop's turn asks, behind a parse -/
theorem pe_R.pre {S S1 : MS} {lo p c a c1 m : Nat} (h : pe_R n S lo p c a c1 S1) (hc : p ≤ c) (hV : pe_V n S) (hm : m = 3 ∨ m = 5 ∨ m = 8 ∨ m = 10 ∨ m = 12) : pp_pre n m a [] lo (a + 1) c1 S1 := by
  obtain ⟨s1, x1, y1, z1, r1, u1, v1, w1, f1, l1, t1⟩ := h
  refine ⟨x1, by omega, v1, hV.same s1, ?_⟩
  rw [if_pos hm]
  exact ⟨rfl, z1, l1, t1, r1⟩
theorem pp_pre.R {S : MS} {lo p c a m : Nat} {l : List Nat} (h : pp_pre n m a l lo p c S) (hm : m = 3 ∨ m = 5 ∨ m = 8 ∨ m = 10 ∨ m = 12) : pe_R n S lo p c a c S := by
  obtain ⟨h1, h2, h3, h4, h5⟩ := h
  rw [if_pos hm] at h5
  obtain ⟨g1, g2, g3, g4, g5⟩ := h5
  subst g1
  exact ⟨pe_same.rf, h1, Nat.le_refl _, g2, g5, Nat.le_refl _, h3, Nat.le_refl _, fun _ _ _ _ _ => rfl, g3, g4⟩
theorem pp_pre.main {S : MS} {lo p c a m : Nat} {l : List Nat} (h : pp_pre n m a l lo p c S) (hm : ¬ (m = 3 ∨ m = 5 ∨ m = 8 ∨ m = 10 ∨ m = 12) ∧ m ≠ 15) : S.1 40 = nI p ∧ p ≤ c ∧ c ≤ n ∧ pe_V n S ∧ lo = p ∧ (m = 14 → a < pr_N S) := by
  obtain ⟨h1, h2, h3, h4, h5⟩ := h
  rw [if_neg hm.1, if_neg hm.2] at h5
  exact ⟨h1, h2, h3, h4, h5⟩
theorem pp_fst_ok {m ml d c lo p : Nat} {S : MS} {q : Nat × Nat × MS} (ih : pp_IH n Inv rec) (hm : ¬ (m = 3 ∨ m = 5 ∨ m = 8 ∨ m = 10 ∨ m = 12) ∧ m ≠ 15 ∧ m ≠ 14) (hml : ml = 3 ∨ ml = 5 ∨ ml = 8 ∨ ml = 10 ∨ ml = 12)
    (h : pp_fst rec m ml d c S = some (.inr q)) (hp : S.1 40 = nI p) (hpc : p ≤ c) (hcn : c ≤ n) (hV : pe_V n S) (hlo : lo = p) : pe_R n S lo p c q.1 q.2.1 q.2.2 ∧ (Inv S → Inv q.2.2) := by
  subst hlo
  obtain ⟨x, c1, S1, h1, h2⟩ := pr_b_ok h
  obtain ⟨r1, i1⟩ := ih.main h1 ⟨hm.1, hm.2.1⟩ hp hpc hcn hV (fun e => absurd e hm.2.2)
  obtain ⟨r2, i2⟩ := ih _ _ _ _ _ _ _ _ _ _ _ h2 (r1.pre hpc hV hml)
  exact ⟨r1.tr (Nat.le_refl _) r2, fun i => i2 (i1 i)⟩
theorem pp_lp_ok {m ml d a c lo p : Nat} {S : MS} {K : Nat → Int32} {q : Nat × Nat × MS} {l : List Nat} (hcl : pc_cl n Inv) (ih : pp_IH n Inv rec) (hm : ¬ (m = 3 ∨ m = 5 ∨ m = 8 ∨ m = 10 ∨ m = 12) ∧ m ≠ 15 ∧ m ≠ 14) (hml : ml = 3 ∨ ml = 5 ∨ ml = 8 ∨ ml = 10 ∨ ml = 12)
    (hK : K c ≠ 0 → lx_kind T n c ≠ 0 ∧ 5 ≤ K c ∧ K c ≤ 21) (h : pp_lp T n rec m ml K d a c S = some (.inr q)) (hp : pp_pre n ml a l lo p c S) : pe_R n S lo p c q.1 q.2.1 q.2.2 ∧ (Inv S → Inv q.2.2) := by
  have r0 := hp.R hml
  have hV := hp.2.2.2.1
  unfold pp_lp at h
  split at h
  · have h' := Sum.inr.inj (Option.some.inj h)
    subst h'
    exact ⟨r0, id⟩
  · rename_i hk
    obtain ⟨k1, k2⟩ := hK hk
    obtain ⟨t1, t2⟩ := lx_tk k1
    obtain ⟨b, c1, S1, h1, h2⟩ := pr_b_ok h
    have ha := r0.2.1
    have e2 := hp.2.1
    have e3 := r0.2.2.1
    have e5 : a + 1 = p := by have h5 := hp.2.2.2.2; rw [if_pos hml] at h5; exact h5.1
    obtain ⟨r1, i1⟩ := ih.main h1 ⟨hm.1, hm.2.1⟩ ha (by omega) t2 hV (fun e => absurd e hm.2.2)
    obtain ⟨x, c2, S2, h3, h4⟩ := pr_b_ok h2
    obtain ⟨r2, i2⟩ := pp_two hcl hV.1 e2 r0 t1 r1 hV k2 h3 id i1
    obtain ⟨r3, i3⟩ := ih _ _ _ _ _ _ _ _ _ _ _ h4 (r2.pre e2 hV hml)
    exact ⟨r2.tr (Nat.le_refl _) r3, fun i => i3 (i2 i)⟩
end
