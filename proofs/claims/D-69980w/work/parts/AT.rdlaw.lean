/-! read: plain laws of its middle -/
set_option maxRecDepth 100000
section
variable {T : Nat → Int32} {nn : Nat} {S0 : MS} {A Q P L : Nat → Nat}
/-- when putIn fails: too many variables -/
theorem pi_es_none (hF : nfs T nn S0 A Q P L) {f n x : Nat} (hn : n < pr_N S0) (hnf : n < f + 1) (IH : ∀ n out call S x c s a, pi f n out call S = none → pi_same S0 S → n < pr_N S0 → n < f → pi_c S x c s a → x + ts one1 S0 f n < 2 ^ 30 → c + ts (kcn S0) S0 f n < 2 ^ 30 → s + ts (stn S0) S0 f n < 2 ^ 30 → a ≤ 6000 → 6000 < a + ts (vcn S0) S0 f n) :
    ∀ m e S1 x1 c1 s1 a1, pi_es (pi f) x m e S1 = none → e + m = pn_hi S0 n → pn_lo S0 n ≤ e → pi_same S0 S1 → pi_c S1 x1 c1 s1 a1 → a1 ≤ 6000 → x1 + ts_e (ts one1 S0 f) S0 m e < 2 ^ 30 → c1 + ts_e (ts (kcn S0) S0 f) S0 m e < 2 ^ 30 → s1 + ts_e (ts (stn S0) S0 f) S0 m e < 2 ^ 30 → 6000 < a1 + ts_e (ts (vcn S0) S0 f) S0 m e := by
  intro m
  induction m with
  | zero => intro e S1 x1 c1 s1 a1 h; cases h
  | succ m ih =>
    intro e S1 x1 c1 s1 a1 h he hlo hs hc ha hx hcc hss
    rw [pi_es] at h
    rw [ts_e] at hx hcc hss ⊢
    have e32 : S1.2 32 e = S0.2 32 e := by rw [hs.2 32 (by omega)]
    rw [e32] at h
    by_cases q3 : S0.2 32 e = 3
    · rw [if_pos q3] at h hx hcc hss ⊢
      obtain ⟨t1, t2, g, g1, g2, g3⟩ := nfs_37 hF hn hlo (by omega) q3
      rw [hs.2 33 (by omega), g3] at h
      rw [g3] at hx hcc hss ⊢
      split at h
      · rename_i h2
        have := IH g (nI x) (nI e) S1 x1 c1 s1 a1 h2 hs (by omega) (by omega) hc (by omega) (by omega) (by omega) ha
        omega
      · rename_i S2 h2
        obtain ⟨B2, M2, C2, p1, p2, p3, p4, -⟩ := pi_full hF f g (nI x) (nI e) S1 S2 x1 c1 s1 a1 h2 hs (by omega) (by omega) hc (by omega) (by omega) (by omega) ha
        have := ih (e + 1) _ _ _ _ _ h (by omega) (by omega) (p1.tr (pi_same.sa (by decide))) p2 p3 (by omega) (by omega) (by omega)
        omega
    · rw [if_neg q3] at h hx hcc hss ⊢
      rw [Nat.zero_add] at hx hcc hss ⊢
      refine ih (e + 1) (pi_m S1 e) x1 c1 s1 a1 h (by omega) (by omega) (hs.tr pi_m_same) ?_ ha hx hcc hss
      have e1 : ∀ q, q ≠ 53 → (pi_m S1 e).1 q = S1.1 q := fun q hq => by
        unfold pi_m
        split
        · rfl
        · rw [ml_sf_f, if_neg hq]
      obtain ⟨z1, z2, z3, z4⟩ := hc
      exact ⟨by rw [e1 50 (by omega)]; exact z1, by rw [e1 54 (by omega)]; exact z2, by rw [e1 52 (by omega)]; exact z3, by rw [e1 51 (by omega)]; exact z4⟩
theorem pi_none (hF : nfs T nn S0 A Q P L) : ∀ f n out call S x c s a, pi f n out call S = none → pi_same S0 S → n < pr_N S0 → n < f → pi_c S x c s a → x + ts one1 S0 f n < 2 ^ 30 → c + ts (kcn S0) S0 f n < 2 ^ 30 → s + ts (stn S0) S0 f n < 2 ^ 30 → a ≤ 6000 → 6000 < a + ts (vcn S0) S0 f n := by
  intro f
  induction f with
  | zero => intro n out call S x c s a _ _ _ h; omega
  | succ f IH =>
    intro n out call S x c s a h hs hn hnf hc hx hcc hss ha
    obtain ⟨i, o, hnode⟩ := hF.2.1 n hn
    obtain ⟨d1, d2, d3, d4, d5, d6, d7⟩ := nf_cnt hnode
    have hva : vcn S0 n ≤ 99 := by rw [d5]; have := hnode.2.1.2.2.2.1; omega
    have hA : A n ≤ 6000 := by have := hnode.2.1; omega
    have e1 : one1 n = 1 := rfl
    rw [ts] at hx hcc hss ⊢
    rw [e1] at hx
    rw [pi] at h
    have econ : S.1 51 + S.2 12 (n + 1) - S.2 12 n = nI (a + vcn S0 n) := by
      rw [hc.2.2.2, hs.2 12 (by omega), d3, d4, nI_add, pk_sub (by omega)]
      congr 1
      omega
    rw [econ] at h
    split at h
    · rename_i hle
      have hle2 : a + vcn S0 n ≤ 6000 := (nI_leI (a := a + vcn S0 n) (b := 6000) (by omega) (by omega)).1 hle
      have ex : jg_n (S.1 50) = x := by rw [hc.1, jg_n, nI_clamp (by omega)]
      have elo : pn_lo S n = pn_lo S0 n := by rw [pn_lo, pn_lo, hs.2 29 (by omega), hs.2 15 (by omega)]
      have ehi : pn_hi S n = pn_hi S0 n := by rw [pn_hi, pn_hi, hs.2 27 (by omega), hs.2 15 (by omega)]
      have evc : jg_n (S.2 12 (n + 1)) - jg_n (S.2 12 n) = vcn S0 n := by rw [vcn, hs.2 12 (by omega)]
      rw [ex, elo, ehi, evc, hc.1] at h
      obtain ⟨g1, g2, g3, g4, -⟩ := pi_en_val (n := n) (out := out) (call := call) hc (by omega)
      rw [hs.2 16 (by omega), d2, nI_add] at g2
      rw [hs.2 17 (by omega), d1, nI_add] at g3
      have sen := hs.tr (pi_en_same (S := S) (n := n) (out := out) (call := call))
      obtain ⟨v1, v2, v3, v4, v5⟩ := pi_vs_val (x := nI x) (a := a) (vcn S0 n) 0 (pi_en S n out call) g4 (by omega)
      have sv := sen.tr (pi_vs_same (x := nI x) (vcn S0 n) 0 (pi_en S n out call))
      have hlohi : pn_lo S0 n ≤ pn_hi S0 n := by
        obtain ⟨l1, l2⟩ := nf_lohi hnode
        rw [l1, l2]
        exact hnode.2.1.2.2.2.2.2.2.2.2.2.2.2.2.1
      have := pi_es_none hF hn hnf IH (pn_hi S0 n - pn_lo S0 n) (pn_lo S0 n) _ (x + 1) (c + kcn S0 n) (s + stn S0 n) (a + vcn S0 n) h (by omega) (Nat.le_refl _) sv ⟨by rw [v4 50 (by omega)]; exact g1, by rw [v4 54 (by omega)]; exact g2, by rw [v4 52 (by omega)]; exact g3, v1⟩ hle2 (by omega) (by omega) (by omega)
      omega
    · rename_i hle
      have : ¬ a + vcn S0 n ≤ 6000 := fun u => hle (show nI (a + vcn S0 n) ≤ nI 6000 from nI_le u (by decide))
      omega
/-- memories are counted as states are -/
theorem pi_es_53 (hF : nfs T nn S0 A Q P L) {f n x : Nat} (hn : n < pr_N S0) (IH : ∀ n out call S S', pi f n out call S = some S' → pi_same S0 S → n < pr_N S0 → n < f → pi_same S0 S' ∧ S'.1 53 = S.1 53 + nI (ts (stn S0) S0 f n)) (hnf : n < f + 1) :
    ∀ m e S1 S', pi_es (pi f) x m e S1 = some S' → e + m = pn_hi S0 n → pn_lo S0 n ≤ e → pi_same S0 S1 → pi_same S0 S' ∧ S'.1 53 = S1.1 53 + nI (nx_t nx_s (S0.2 32) e m + ts_e (ts (stn S0) S0 f) S0 m e) := by
  have shift : ∀ m e, nx_t nx_s (S0.2 32) e (m + 1) = nx_s (S0.2 32 e) + nx_t nx_s (S0.2 32) (e + 1) m := by
    intro m e
    rw [show m + 1 = 1 + m by omega, nx_t_add]
    show 0 + nx_s (S0.2 32 (e + 0)) + _ = _
    rw [Nat.zero_add, Nat.add_zero]
  intro m
  induction m with
  | zero =>
    intro e S1 S' h he hlo hs
    have h' := Option.some.inj h
    subst h'
    exact ⟨hs, (Int32.add_zero _).symm⟩
  | succ m ih =>
    intro e S1 S' h he hlo hs
    rw [pi_es] at h
    have e32 : S1.2 32 e = S0.2 32 e := by rw [hs.2 32 (by omega)]
    rw [e32] at h
    rw [shift, ts_e]
    by_cases q3 : S0.2 32 e = 3
    · rw [if_pos q3] at h
      obtain ⟨t1, t2, g, g1, g2, g3⟩ := nfs_37 hF hn hlo (by omega) q3
      rw [hs.2 33 (by omega), g3] at h
      split at h
      · cases h
      rename_i S2 h2
      obtain ⟨p1, p2⟩ := IH g (nI x) (nI e) S1 S2 h2 hs (by omega) (by omega)
      obtain ⟨r1, r2⟩ := ih (e + 1) _ S' h (by omega) (by omega) (p1.tr (pi_same.sa (by decide)))
      refine ⟨r1, ?_⟩
      rw [r2, if_pos q3, g3, q3]
      show S2.1 53 + _ = _
      rw [p2, Int32.add_assoc, nI_add]
      congr 2
      have : nx_s 3 = 0 := rfl
      omega
    · rw [if_neg q3] at h
      obtain ⟨r1, r2⟩ := ih (e + 1) _ S' h (by omega) (by omega) (hs.tr pi_m_same)
      refine ⟨r1, ?_⟩
      rw [r2, if_neg q3]
      have e53 : (pi_m S1 e).1 53 = S1.1 53 + nI (nx_s (S0.2 32 e)) := by
        unfold pi_m
        rw [e32]
        split
        · rename_i u
          rw [u]
          exact (Int32.add_zero _).symm
        · rw [ml_sf_f, if_pos rfl]
      rw [e53, Int32.add_assoc, nI_add]
      congr 2
      omega
theorem pi_53 (hF : nfs T nn S0 A Q P L) : ∀ f n out call S S', pi f n out call S = some S' → pi_same S0 S → n < pr_N S0 → n < f → pi_same S0 S' ∧ S'.1 53 = S.1 53 + nI (ts (stn S0) S0 f n) := by
  intro f
  induction f with
  | zero => intro n out call S S' h; cases h
  | succ f IH =>
    intro n out call S S' h hs hn hnf
    obtain ⟨i, o, hnode⟩ := hF.2.1 n hn
    obtain ⟨d1, d2, d3, d4, d5, d6, d7⟩ := nf_cnt hnode
    obtain ⟨l1, l2⟩ := nf_lohi hnode
    have hlohi : pn_lo S0 n ≤ pn_hi S0 n := by
      rw [l1, l2]
      exact hnode.2.1.2.2.2.2.2.2.2.2.2.2.2.2.1
    rw [pi] at h
    split at h
    · have elo : pn_lo S n = pn_lo S0 n := by rw [pn_lo, pn_lo, hs.2 29 (by omega), hs.2 15 (by omega)]
      have ehi : pn_hi S n = pn_hi S0 n := by rw [pn_hi, pn_hi, hs.2 27 (by omega), hs.2 15 (by omega)]
      rw [elo, ehi] at h
      have sen := hs.tr (pi_en_same (S := S) (n := n) (out := out) (call := call))
      have sv := sen.tr (pi_vs_same (x := S.1 50) (jg_n (S.2 12 (n + 1)) - jg_n (S.2 12 n)) 0 (pi_en S n out call))
      obtain ⟨r1, r2⟩ := pi_es_53 hF hn IH hnf _ _ _ _ h (by omega) (Nat.le_refl _) sv
      refine ⟨r1, ?_⟩
      have vs53 : ∀ m i S, (pi_vs (S.1 50) m i S).1 53 = S.1 53 := by
        have : ∀ (x : Int32) m i S, (pi_vs x m i S).1 53 = S.1 53 := by
          intro x m
          induction m with
          | zero => intro i S; rfl
          | succ m ih =>
            intro i S
            show (pi_vs x m (i + 1) (pi_v S x i)).1 53 = _
            rw [ih]
            unfold pi_v
            rw [ml_sa_f, ml_sf_f, if_neg (by omega)]
            rfl
        exact fun m i S => this _ m i S
      have vs53' : ∀ (x : Int32) m i S, (pi_vs x m i S).1 53 = S.1 53 := by
        intro x m
        induction m with
        | zero => intro i S; rfl
        | succ m ih =>
          intro i S
          show (pi_vs x m (i + 1) (pi_v S x i)).1 53 = _
          rw [ih]
          unfold pi_v
          rw [ml_sa_f, ml_sf_f, if_neg (by omega)]
          rfl
      have en53 : (pi_en S n out call).1 53 = S.1 53 := by
        unfold pi_en pi_e3 pi_e2 pi_e1
        simp [ml_sf_f, ml_sa_f]
      rw [r2, vs53', en53, ts, d6, l1, l2]
    · cases h
/-- sums over the nodes that there are -/
theorem ts_leN (hF : nfs T nn S0 A Q P L) {g g' : Nat → Nat} {c : Nat} (h : ∀ x, x < pr_N S0 → g' x ≤ c * g x) : ∀ f x, x < pr_N S0 → ts g' S0 f x ≤ c * ts g S0 f x := by
  intro f
  induction f with
  | zero => intro x _; exact Nat.zero_le _
  | succ f ih =>
    intro x hx
    obtain ⟨i, o, hn⟩ := hF.2.1 x hx
    obtain ⟨l1, l2⟩ := nf_lohi hn
    have hpp : P x ≤ P (x + 1) := hn.2.1.2.2.2.2.2.2.2.2.2.2.2.2.1
    rw [ts, ts, Nat.mul_add]
    have h1 := h x hx
    have h2 := ts_e_le (h := ts g S0 f) (h' := ts g' S0 f) (S := S0) (c := c) (pn_hi S0 x - pn_lo S0 x) (pn_lo S0 x) (fun e e1 e2 e3 => by
      rw [l1] at e1 e2
      rw [l2] at e2
      obtain ⟨g9, c1, c2, c3, -⟩ := nf_callee hn e1 (by omega) e3
      rw [c3]
      exact ih g9 (by omega))
    omega
theorem nx_t_le1 {g : Int32 → Nat} {B : Nat → Int32} {p : Nat} (hg : ∀ s, g s ≤ 1) : ∀ m, nx_t g B p m ≤ m := by
  intro m
  induction m with
  | zero => exact Nat.le_refl _
  | succ m ih =>
    rw [nx_t]
    have := hg (B (p + m))
    omega
theorem own_le (hF : nfs T nn S0 A Q P L) {x : Nat} (hx : x < pr_N S0) : 1 ≤ own_p S0 x ∧ kcn S0 x ≤ own_p S0 x ∧ stn S0 x ≤ 2 * own_p S0 x := by
  obtain ⟨i, o, hn⟩ := hF.2.1 x hx
  obtain ⟨l1, l2⟩ := nf_lohi hn
  obtain ⟨d1, d2, d3, d4, d5, d6, d7⟩ := nf_cnt hn
  obtain ⟨⟨a1, a2, a3, a4, a5, a6⟩, ⟨b1, b2, b3, b4, b5, b6, b7, b8, b9, b10, b11, b12, b13, b14⟩, -⟩ := id hn
  have e : own_p S0 x = (Q (x + 1) - Q x) + (P (x + 1) - P x) := by
    unfold own_p
    rw [l1, l2, a5, a6, jg_n, jg_n, nI_clamp (n := Q x) (by omega), nI_clamp (n := Q (x + 1)) (by omega)]
  have h1 := nx_t_le1 (g := nx_q) (B := S0.2 32) (p := P x) (fun s => by unfold nx_q; split <;> omega) (P (x + 1) - P x)
  have h2 := nx_t_le (g := nx_s) (B := S0.2 32) (p := P x) nx_s_le (P (x + 1) - P x)
  refine ⟨by omega, by omega, by omega⟩
theorem nfs.cg {S : MS} (hF : nfs T nn S0 A Q P L) (h1 : ∀ q, q = 18 ∨ q = 19 ∨ q = 30 ∨ q = 31 ∨ q = 40 → S.1 q = S0.1 q) (h2 : ∀ q, q < 43 → S.2 q = S0.2 q) : nfs T nn S A Q P L := by
  have hN := pr_N60 hF
  obtain ⟨⟨f1, f2, f3, f4⟩, f5, f6, f7⟩ := hF
  have e1 : pr_N S = pr_N S0 := by rw [pr_N, pr_N, h1 18 (by omega)]
  have e2 : pr_v S = pr_v S0 := by rw [pr_v, pr_v, h1 19 (by omega)]
  have e3 : pr_k S = pr_k S0 := by rw [pr_k, pr_k, h1 30 (by omega)]
  have e4 : pr_p S = pr_p S0 := by rw [pr_p, pr_p, h1 40 (by omega)]
  have e5 : pr_l S = pr_l S0 := by rw [pr_l, pr_l, h1 31 (by omega)]
  have hk : ∀ N v k l p, nk N v k l p S0 S := fun N v k l p => ⟨fun x j hx _ => by rw [h2 x (by omega)], fun x j hx _ _ => by rw [h2 x (by omega)], fun x j hx _ => by rw [h2 x (by omega)], fun x j hx _ => by rw [h2 x (by omega)], fun j _ => by rw [h2 26 (by omega)], fun j _ => by rw [h2 28 (by omega)], fun x e hx hx2 _ => by rw [h2 x (by omega)], h2 0 (by omega)⟩
  refine ⟨by rw [e1, e2, e3, e4, e5]; exact ⟨f1, f2, f3, f4⟩, fun f hf => ?_, ?_, ?_⟩
  · rw [e1] at hf
    obtain ⟨i, o, g⟩ := f5 f hf
    exact ⟨i, o, g.keep (hk 60 _ _ _ _) (Nat.le_refl _) (by omega) (Nat.le_refl _) (Nat.le_refl _) (Nat.le_refl _) (Nat.le_refl _)⟩
  · rw [e1, h2 15 (by omega), h1 30 (by omega)]
    exact f6
  · rw [e4, h2 38 (by omega), h2 34 (by omega)]
    exact f7
theorem ts_cg2 {g : Nat → Nat} {S S' : MS} (h : ∀ q, q = 15 ∨ q = 27 ∨ q = 29 ∨ q = 32 ∨ q = 33 → S'.2 q = S.2 q) : ∀ f n, ts g S' f n = ts g S f n := by
  intro f
  induction f with
  | zero => intro n; rfl
  | succ f ih =>
    intro n
    have e1 : pn_lo S' n = pn_lo S n := by rw [pn_lo, pn_lo, h 29 (by omega), h 15 (by omega)]
    have e2 : pn_hi S' n = pn_hi S n := by rw [pn_hi, pn_hi, h 27 (by omega), h 15 (by omega)]
    rw [ts, ts, e1, e2, ts_e_cg (h 32 (by omega)) (h 33 (by omega)), ts_e_cg2 _ _ (fun x _ _ _ => ih _)]
/-- the state behind putIn -/
theorem rw_of {S : MS} {n : Nat} (hK : rw_K T nn S0 A Q P L) (hn : n + 1 = pr_N S0) (hp : pi_same S0 S) (hG : pi_G S0 S0 S (n + 1) n 0 0 0 0 (-1) (-1)) (h3 : ts (own_p S0) S0 (n + 1) n ≤ 3000) {S' : MS} (hS' : S'.2 = S.2) (h1' : ∀ q, q ≠ 55 → S'.1 q = S.1 q) :
    rw_K T nn S' A Q P L ∧ ∃ B M C, rw_I S' (ts one1 S0 (n + 1) n) B M C ∧ B (ts one1 S0 (n + 1) n) = ts (vcn S0) S0 (n + 1) n ∧ M (ts one1 S0 (n + 1) n) = ts (stn S0) S0 (n + 1) n := by
  obtain ⟨hF, hfk⟩ := hK
  obtain ⟨B, M, C, p1, p2, p3, p4, p5, ⟨p6, p7, p8, p9, p10, p11⟩, p12, p13, p14, p15, p16⟩ := hG
  have ow := fun x (hx : x < pr_N S0) => own_le hF hx
  have t1 := ts_leN hF (g := own_p S0) (g' := one1) (c := 1) (fun x hx => by have := (ow x hx).1; show 1 ≤ _; omega) (n + 1) n (by omega)
  have t2 := ts_leN hF (g := own_p S0) (g' := kcn S0) (c := 1) (fun x hx => by have := (ow x hx).2.1; omega) (n + 1) n (by omega)
  have t3 := ts_leN hF (g := own_p S0) (g' := stn S0) (c := 2) (fun x hx => (ow x hx).2.2) (n + 1) n (by omega)
  have t4 : 1 ≤ ts one1 S0 (n + 1) n := ts_pos (S0 := S0) (g := one1) (f := n + 1) (n := n) (by omega)
  have a2 : ∀ q, q < 56 → S'.2 q = S0.2 q := fun q hq => by rw [hS']; exact p1.2 q (by omega)
  have a1 : ∀ q, q < 49 → S'.1 q = S0.1 q := fun q hq => by rw [h1' q (by omega)]; exact p1.1 q (by omega)
  have eN : pr_N S' = pr_N S0 := by rw [pr_N, pr_N, a1 18 (by omega)]
  have ev : vcn S' = vcn S0 := funext fun x => by rw [vcn, vcn, a2 12 (by omega)]
  have es : stn S' = stn S0 := funext fun x => by rw [stn, stn, a2 17 (by omega)]
  have ek : kcn S' = kcn S0 := funext fun x => by rw [kcn, kcn, a2 16 (by omega)]
  have el : ∀ x, pn_lo S' x = pn_lo S0 x := fun x => by rw [pn_lo, pn_lo, a2 29 (by omega), a2 15 (by omega)]
  have eh : ∀ x, pn_hi S' x = pn_hi S0 x := fun x => by rw [pn_hi, pn_hi, a2 27 (by omega), a2 15 (by omega)]
  rw [Nat.zero_add] at p5 p7 p9 p11 p12 p13 p3
  rw [Nat.zero_add] at p7 p9 p11
  refine ⟨⟨hF.cg (fun q hq => a1 q (by omega)) (fun q hq => a2 q (by omega)), fun f hf k k1 k2 => ?_⟩, B, M, C, ⟨⟨p6, p8, p10, by omega, by omega, by omega, by omega, t4⟩, ?_, ?_, ?_, by rw [hS']; exact p15, ?_, by omega⟩, p7, p9⟩
  · rw [eN] at hf
    have := hfk f hf k k1 k2
    unfold fk fk0 fu_e ar_o kls jg_v at this ⊢
    rw [a2 29 (by omega), a2 27 (by omega), a2 26 (by omega), a2 43 (by omega), a2 44 (by omega), a2 45 (by omega), a2 46 (by omega), a2 47 (by omega), a2 36 (by omega), a2 22 (by omega), a2 28 (by omega), a2 34 (by omega), a2 35 (by omega), a2 32 (by omega), a2 33 (by omega)]
    exact this
  · intro x x1 x2
    have := p5 x x1 x2
    rw [hS', eN, ev, es, ek]
    exact this
  · intro x x1 x2
    have := p12 x x1 x2
    unfold pr_kc at this ⊢
    rw [hS', eN]
    have e32 : S.2 32 = S0.2 32 := by rw [← hS']; exact a2 32 (by omega)
    have e33 : S.2 33 = S0.2 33 := by rw [← hS']; exact a2 33 (by omega)
    have e37 : S.2 37 = S0.2 37 := by rw [← hS']; exact a2 37 (by omega)
    rw [e32, e33, e37]
    intro m q1 q2 e q3 q4
    rw [el] at q3
    rw [eh] at q4
    exact this m q1 q2 e q3 q4
  · intro x x1 x2
    obtain ⟨y, e, m, r1, r2, r3, r4, r5, r6, r7, r8, r9, r10⟩ := p13 x x1 x2
    exact ⟨y, e, m, r1, r2, by rw [hS']; exact r3, by rw [hS']; exact r4, by rw [hS']; exact r5, by rw [eN]; exact r6, by rw [el]; exact r7, by rw [eh]; exact r8, by rw [a2 32 (by omega)]; exact r9, by rw [a2 33 (by omega), hS']; exact r10⟩
  · rw [hS', eN, p14]
    congr 1
    omega
end
