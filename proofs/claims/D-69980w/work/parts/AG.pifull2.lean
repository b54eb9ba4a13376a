/-! putIn: what it leaves, the induction -/
set_option maxRecDepth 100000
section
variable {T : Nat → Int32} {nn : Nat} {S0 : MS} {A Q P L : Nat → Nat}
theorem nfs_37 (hF : nfs T nn S0 A Q P L) {n e : Nat} (hn : n < pr_N S0) (h1 : pn_lo S0 n ≤ e) (h2 : e < pn_hi S0 n) (h3 : S0.2 32 e = 3) : S0.2 37 e = nI (jg_n (S0.2 37 e)) ∧ jg_n (S0.2 37 e) < kcn S0 n ∧ ∃ g, g < n ∧ S0.2 33 e = nI g ∧ jg_n (S0.2 33 e) = g := by
  obtain ⟨i, o, h⟩ := hF.2.1 n hn
  obtain ⟨l1, l2⟩ := nf_lohi h
  rw [l1] at h1
  rw [l2] at h2
  obtain ⟨r1, r2, r3⟩ := nf_37 h h1 h2 h3
  obtain ⟨g, g1, g2, g3, -⟩ := nf_callee h h1 h2 h3
  exact ⟨r1, r3, g, g1, g2, g3⟩
theorem nfs_37_lt (hF : nfs T nn S0 A Q P L) {n e e' : Nat} (hn : n < pr_N S0) (h1 : pn_lo S0 n ≤ e') (h2 : e < pn_hi S0 n) (h3 : S0.2 32 e = 3) (h4 : S0.2 32 e' = 3) (h5 : e' < e) : jg_n (S0.2 37 e') < jg_n (S0.2 37 e) := by
  obtain ⟨i, o, h⟩ := hF.2.1 n hn
  obtain ⟨l1, l2⟩ := nf_lohi h
  rw [l1] at h1
  rw [l2] at h2
  exact nf_37_lt h h1 h2 h3 h4 h5
theorem pr_N60 (hF : nfs T nn S0 A Q P L) : pr_N S0 ≤ 60 := by
  rcases Nat.lt_or_ge 60 (pr_N S0) with u | u
  · obtain ⟨i, o, h⟩ := hF.2.1 60 u
    have := h.2.1.2.2.2.2.2.2.1
    omega
  · exact u
theorem ts_pos {g : Nat → Nat} {f n : Nat} (h : 0 < f) : g n ≤ ts g S0 f n := by
  cases f with
  | zero => omega
  | succ f => rw [ts]; omega
theorem pi_es_full (hF : nfs T nn S0 A Q P L) {f n x c : Nat} (hn : n < pr_N S0) (IH : ∀ n out call S S' x c s a, pi f n out call S = some S' → pi_same S0 S → n < pr_N S0 → n < f → pi_c S x c s a → x + ts one1 S0 f n < 2 ^ 30 → c + ts (kcn S0) S0 f n < 2 ^ 30 → s + ts (stn S0) S0 f n < 2 ^ 30 → a ≤ 6000 → pi_G S0 S S' f n x c s a out call) (hnf : n < f + 1) :
    ∀ m e S1 S' x1 c1 s1 a1 (B M C : Nat → Nat), pi_es (pi f) x m e S1 = some S' → e + m = pn_hi S0 n → pn_lo S0 n ≤ e → pi_same S0 S1 → pi_c S1 x1 c1 s1 a1 → a1 ≤ 6000 → x1 + ts_e (ts one1 S0 f) S0 m e < 2 ^ 30 → c1 + ts_e (ts (kcn S0) S0 f) S0 m e < 2 ^ 30 → s1 + ts_e (ts (stn S0) S0 f) S0 m e < 2 ^ 30 →
      x < x1 → pr_R S0 S1 x x1 B M C → B x1 = a1 → M x1 = s1 → C x1 = c1 → C x = c → C (x + 1) = c + kcn S0 n → pr_Q S0 S1 (x + 1) x1 C → (∀ y, pn_lo S0 n ≤ y → y < e → S0.2 32 y = 3 → pr_kc S0 S1 x1 x y c) → pr_U S0 S1 x x1 → S1.2 56 x = nI n →
      ∃ B' M' C' : Nat → Nat, pi_same S0 S' ∧ pi_c S' (x1 + ts_e (ts one1 S0 f) S0 m e) (c1 + ts_e (ts (kcn S0) S0 f) S0 m e) (s1 + ts_e (ts (stn S0) S0 f) S0 m e) (a1 + ts_e (ts (vcn S0) S0 f) S0 m e) ∧ a1 + ts_e (ts (vcn S0) S0 f) S0 m e ≤ 6000 ∧
        (∀ q j, 56 ≤ q → q ≤ 61 → j < x1 → S'.2 q j = S1.2 q j) ∧ (∀ j, j < c → S'.2 62 j = S1.2 62 j) ∧ (∀ q j, q = 63 ∨ q = 64 → j < a1 → S'.2 q j = S1.2 q j) ∧
        pr_R S0 S' x (x1 + ts_e (ts one1 S0 f) S0 m e) B' M' C' ∧ (B' x = B x ∧ M' x = M x ∧ C' x = C x ∧ B' (x1 + ts_e (ts one1 S0 f) S0 m e) = a1 + ts_e (ts (vcn S0) S0 f) S0 m e ∧ M' (x1 + ts_e (ts one1 S0 f) S0 m e) = s1 + ts_e (ts (stn S0) S0 f) S0 m e ∧ C' (x1 + ts_e (ts one1 S0 f) S0 m e) = c1 + ts_e (ts (kcn S0) S0 f) S0 m e) ∧
        pr_Q S0 S' (x + 1) (x1 + ts_e (ts one1 S0 f) S0 m e) C' ∧ (∀ y, pn_lo S0 n ≤ y → y < pn_hi S0 n → S0.2 32 y = 3 → pr_kc S0 S' (x1 + ts_e (ts one1 S0 f) S0 m e) x y c) ∧ pr_U S0 S' x (x1 + ts_e (ts one1 S0 f) S0 m e) := by
  intro m
  induction m with
  | zero =>
    intro e S1 S' x1 c1 s1 a1 B M C h he hlo hs hc ha hx hcc hss hxx hR hB hM hC hCx hC1 hQ hk hU h56
    have h' := Option.some.inj h
    subst h'
    rw [Nat.add_zero] at he
    subst he
    exact ⟨B, M, C, hs, hc, ha, fun _ _ _ _ _ => rfl, fun _ _ => rfl, fun _ _ _ _ => rfl, hR, ⟨rfl, rfl, rfl, hB, hM, hC⟩, hQ, hk, hU⟩
  | succ m ih =>
    intro e S1 S' x1 c1 s1 a1 B M C h he hlo hs hc ha hx hcc hss hxx hR hB hM hC hCx hC1 hQ hk hU h56
    rw [pi_es] at h
    rw [ts_e] at hx hcc hss ⊢
    rw [ts_e, ts_e, ts_e]
    have e32 : S1.2 32 e = S0.2 32 e := by rw [hs.2 32 (by omega)]
    rw [e32] at h
    by_cases q3 : S0.2 32 e = 3
    · rw [if_pos q3] at h hx hcc hss ⊢
      rw [if_pos q3, if_pos q3, if_pos q3]
      obtain ⟨t1, t2, g, g1, g2, g3⟩ := nfs_37 hF hn hlo (by omega) q3
      rw [hs.2 33 (by omega), g3] at h
      rw [g3] at hx hcc hss ⊢
      split at h
      · cases h
      rename_i S2 h2
      obtain ⟨B2, M2, C2, p1, p2, p3, p4, p5, ⟨p6, p7, p8, p9, p10, p11⟩, p12, p13, p14, p15, p16⟩ := IH g (nI x) (nI e) S1 S2 x1 c1 s1 a1 h2 hs (by omega) (by omega) hc (by omega) (by omega) (by omega) ha
      have h1 := ts_pos (S0 := S0) (g := one1) (f := f) (n := g) (by omega)
      have h1 : 1 ≤ ts one1 S0 f g := h1
      have hmB := hR.mB
      obtain ⟨n9, r1, r2, r3, r4, r5, r6, r7, r8, r9⟩ := hR x (Nat.le_refl _) hxx
      have e61 : S1.2 61 x = nI c := by rw [r5, hCx]
      have hCle : c + kcn S0 n ≤ c1 := by
        have := (hmB (x1 - (x + 1)) (x + 1) (by omega) (by omega)).2.2
        rw [show x + 1 + (x1 - (x + 1)) = x1 by omega] at this
        omega
      have ei : jg_n (S1.2 61 x + S1.2 37 e) = c + jg_n (S0.2 37 e) := by
        rw [e61, hs.2 37 (by omega)]
        have h9 : jg_n (nI c + nI (jg_n (S0.2 37 e))) = c + jg_n (S0.2 37 e) := by rw [nI_add]; exact nI_clamp (by omega)
        rw [← t1] at h9
        exact h9
      rw [ei, hc.1] at h
      generalize hS3 : ml_sa S2 62 (c + jg_n (S0.2 37 e)) (nI x1) = S3 at h
      have o3 : ∀ q j, q ≠ 62 ∨ j ≠ c + jg_n (S0.2 37 e) → S3.2 q j = S2.2 q j := fun q j hq => by
        rw [← hS3, ml_sa_a]
        split
        · rw [if_neg (by omega)]
        · rfl
      have v3 : S3.2 62 (c + jg_n (S0.2 37 e)) = nI x1 := by rw [← hS3, ml_sa_a, if_pos rfl, if_pos rfl]
      have f3 : S3.1 = S2.1 := by rw [← hS3]; rfl
      have s3 : pi_same S0 S3 := p1.tr (by rw [← hS3]; exact pi_same.sa (by decide))
      have k1 : ∀ q j, 56 ≤ q → q ≤ 61 → j < x1 → S3.2 q j = S1.2 q j := fun q j a b d => (o3 q j (by omega)).trans (p4.1 q j a b d)
      have k2 : ∀ j, j < c1 → j ≠ c + jg_n (S0.2 37 e) → S3.2 62 j = S1.2 62 j := fun j a b => (o3 62 j (Or.inr b)).trans (p4.2.1 j a)
      have k3 : ∀ q j, q = 63 ∨ q = 64 → j < a1 → S3.2 q j = S1.2 q j := fun q j a b => (o3 q j (by omega)).trans (p4.2.2 q j a b)
      have hR1 : pr_R S0 S3 x x1 B M C := hR.keep k1 (fun q j a b => k3 q j a (by omega)) (fun y a b => by
        have := (hmB (x1 - (y + 1)) (y + 1) (by omega) (by omega)).1
        rw [show y + 1 + (x1 - (y + 1)) = x1 by omega] at this
        exact this)
      have hR2 : pr_R S0 S3 x1 (x1 + ts one1 S0 f g) B2 M2 C2 := p5.keep (fun q j a b d => o3 q j (by omega)) (fun q j a b => o3 q j (by omega)) (fun y a b => by
        have := (p5.mB (x1 + ts one1 S0 f g - (y + 1)) (y + 1) (by omega) (by omega)).1
        rw [show y + 1 + (x1 + ts one1 S0 f g - (y + 1)) = x1 + ts one1 S0 f g by omega] at this
        exact this)
      have hR3 := hR1.app hR2 (hB.trans p6.symm) (hM.trans p8.symm) (hC.trans p10.symm)
      have lt1 : ∀ (F G : Nat → Nat) y, y < x1 → (if y < x1 then F y else G y) = F y := fun F G y hy => if_pos hy
      have ge1 : ∀ (F G : Nat → Nat) y, x1 ≤ y → (if y < x1 then F y else G y) = G y := fun F G y hy => if_neg (by omega)
      obtain ⟨B', M', C', w1, w2, w3, w4, w5, w6, w7, ⟨w8, w9, w10, w11, w12, w13⟩, w14, w15, w16⟩ := ih (e + 1) S3 S' (x1 + ts one1 S0 f g) (c1 + ts (kcn S0) S0 f g) (s1 + ts (stn S0) S0 f g) (a1 + ts (vcn S0) S0 f g) _ _ _ h (by omega) (by omega) s3 (by
          obtain ⟨z1, z2, z3, z4⟩ := p2
          unfold pi_c
          rw [f3]
          exact ⟨z1, z2, z3, z4⟩) p3 (by omega) (by omega) (by omega) (by omega) hR3 (by rw [ge1 _ _ _ (by omega)]; exact p7) (by rw [ge1 _ _ _ (by omega)]; exact p9) (by rw [ge1 _ _ _ (by omega)]; exact p11) (by rw [lt1 _ _ _ hxx]; exact hCx) (by
          show (if x + 1 < x1 then C (x + 1) else C2 (x + 1)) = _
          by_cases u : x + 1 < x1
          · rw [if_pos u]; exact hC1
          · rw [if_neg u, show x + 1 = x1 by omega, p10, ← hC, show x1 = x + 1 by omega]
            exact hC1)
        (fun y y1 y2 n8 u1 u2 e' u3 u4 u5 => by
          show pr_kc S0 S3 _ y e' (if y < x1 then C y else C2 y)
          obtain ⟨t1', t2', -⟩ := nfs_37 hF u2 u3 u4 u5
          rcases Nat.lt_or_ge y x1 with u | u
          · rw [if_pos u]
            rw [k1 56 y (by omega) (by omega) u] at u1
            obtain ⟨n7, m1, m2, m3, m4, m5, m6, m7, m8, m9⟩ := hR y (by omega) u
            have en : n7 = n8 := by
              have hh := hF.1
              have : nI n7 = nI n8 := by rw [← m1]; exact u1
              exact (nI_eq (by have := pr_N60 hF; omega) (by have := pr_N60 hF; omega)).1 this
            rw [en] at m8
            have q1 := (hmB (y - (x + 1)) (x + 1) (by omega) (by omega)).2.2
            rw [show x + 1 + (y - (x + 1)) = y by omega] at q1
            have q2 := (hmB (x1 - (y + 1)) (y + 1) (by omega) (by omega)).2.2
            rw [show y + 1 + (x1 - (y + 1)) = x1 by omega] at q2
            exact (hQ y y1 u n8 u1 u2 e' u3 u4 u5).keep (x0 := x) (c1 := c1) (by omega) k1 (k2 _ (by omega) (by omega))
          · rw [if_neg (by omega)]
            rw [o3 56 y (by omega)] at u1
            have q1 := (p5.mB (y - x1) x1 (Nat.le_refl _) (by omega)).2.2
            rw [show x1 + (y - x1) = y by omega] at q1
            exact (p12 y u y2 n8 u1 u2 e' u3 u4 u5).keep (x0 := x) (c1 := c1) (Nat.le_refl _) (fun q j a b d => o3 q j (by omega)) (o3 _ _ (by omega)))
        (fun y y1 y2 y3 => by
          rcases Nat.lt_or_ge y e with u | u
          · obtain ⟨-, v2, -⟩ := nfs_37 hF hn y1 (by omega) y3
            have hlt := nfs_37_lt hF hn y1 (by omega) q3 y3 u
            exact (hk y y1 u y3).keep (x0 := x) (c1 := c1) (by omega) k1 (k2 _ (by omega) (by omega))
          · have ey : y = e := by omega
            subst ey
            exact ⟨x1, hxx, by omega, v3, by rw [o3 56 x1 (by omega), p14, g2], by rw [o3 57 x1 (by omega)]; exact p15, by rw [o3 58 x1 (by omega)]; exact p16⟩)
        (fun y y1 y2 => by
          rcases Nat.lt_or_ge y x1 with u | u
          · exact (hU y y1 u).keep u (Nat.le_refl _) k1
          · rcases Nat.lt_or_ge x1 y with w | w
            · exact (p13 y w y2).keep y2 (by omega) (fun q j a b d => o3 q j (by omega))
            · have ey : y = x1 := by omega
              subst ey
              exact ⟨x, e, n, Nat.le_refl _, hxx, by rw [o3 57 _ (by omega)]; exact p15, by rw [o3 58 _ (by omega)]; exact p16, by rw [k1 56 x (by omega) (by omega) hxx]; exact h56, hn, hlo, by omega, q3, by rw [o3 56 _ (by omega), p14, g2]⟩)
        (by rw [k1 56 x (by omega) (by omega) hxx]; exact h56)
      rw [← Nat.add_assoc, ← Nat.add_assoc, ← Nat.add_assoc, ← Nat.add_assoc]
      refine ⟨B', M', C', w1, w2, w3, fun q j a b d => (w4 q j a b (by omega)).trans (k1 q j a b d), fun j a => (w5 j a).trans (k2 j (by omega) (by omega)), fun q j a b => (w6 q j a (by omega)).trans (k3 q j a b), w7, ⟨?_, ?_, ?_, w11, w12, w13⟩, w14, w15, w16⟩
      · rw [w8]; exact lt1 _ _ _ hxx
      · rw [w9]; exact lt1 _ _ _ hxx
      · rw [w10]; exact lt1 _ _ _ hxx
    · rw [if_neg q3] at h hx hcc hss ⊢
      rw [if_neg q3, if_neg q3, if_neg q3, Nat.zero_add, Nat.zero_add, Nat.zero_add, Nat.zero_add]
      rw [Nat.zero_add] at hx hcc hss
      have e2 : (pi_m S1 e).2 = S1.2 := by
        unfold pi_m
        split <;> rfl
      have e1 : ∀ q, q ≠ 53 → (pi_m S1 e).1 q = S1.1 q := fun q hq => by
        unfold pi_m
        split
        · rfl
        · rw [ml_sf_f, if_neg hq]
      have hc' : pi_c (pi_m S1 e) x1 c1 s1 a1 := by
        obtain ⟨z1, z2, z3, z4⟩ := hc
        exact ⟨by rw [e1 50 (by omega)]; exact z1, by rw [e1 54 (by omega)]; exact z2, by rw [e1 52 (by omega)]; exact z3, by rw [e1 51 (by omega)]; exact z4⟩
      have hR' : pr_R S0 (pi_m S1 e) x x1 B M C := by
        unfold pr_R
        rw [e2]
        exact hR
      have hQ' : pr_Q S0 (pi_m S1 e) (x + 1) x1 C := by
        unfold pr_Q pr_kc
        rw [e2]
        exact hQ
      have hU' : pr_U S0 (pi_m S1 e) x x1 := by
        unfold pr_U pr_up
        rw [e2]
        exact hU
      have hk' : ∀ y, pn_lo S0 n ≤ y → y < e + 1 → S0.2 32 y = 3 → pr_kc S0 (pi_m S1 e) x1 x y c := fun y y1 y2 y3 => by
        rcases Nat.lt_or_ge y e with u | u
        · unfold pr_kc
          rw [e2]
          exact hk y y1 u y3
        · have : y = e := by omega
          rw [this] at y3
          exact absurd y3 q3
      obtain ⟨B', M', C', w1, w2, w3, w4, w5, w6, w7⟩ := ih (e + 1) (pi_m S1 e) S' x1 c1 s1 a1 B M C h (by omega) (by omega) (hs.tr pi_m_same) hc' ha hx hcc hss hxx hR' hB hM hC hCx hC1 hQ' hk' hU' (by rw [e2]; exact h56)
      rw [e2] at w4 w5 w6
      exact ⟨B', M', C', w1, w2, w3, w4, w5, w6, w7⟩
theorem pi_full (hF : nfs T nn S0 A Q P L) : ∀ f n out call S S' x c s a, pi f n out call S = some S' → pi_same S0 S → n < pr_N S0 → n < f → pi_c S x c s a → x + ts one1 S0 f n < 2 ^ 30 → c + ts (kcn S0) S0 f n < 2 ^ 30 → s + ts (stn S0) S0 f n < 2 ^ 30 → a ≤ 6000 → pi_G S0 S S' f n x c s a out call := by
  intro f
  induction f with
  | zero => intro n out call S S' x c s a h; cases h
  | succ f IH =>
    intro n out call S S' x c s a h hs hn hnf hc hx hcc hss ha
    obtain ⟨i, o, hnode⟩ := hF.2.1 n hn
    obtain ⟨d1, d2, d3, d4, d5, d6, d7⟩ := nf_cnt hnode
    rw [pi] at h
    split at h
    · rename_i hle
      have ex : jg_n (S.1 50) = x := by rw [hc.1, jg_n, nI_clamp (by omega)]
      have elo : pn_lo S n = pn_lo S0 n := by rw [pn_lo, pn_lo, hs.2 29 (by omega), hs.2 15 (by omega)]
      have ehi : pn_hi S n = pn_hi S0 n := by rw [pn_hi, pn_hi, hs.2 27 (by omega), hs.2 15 (by omega)]
      have evc : jg_n (S.2 12 (n + 1)) - jg_n (S.2 12 n) = vcn S0 n := by rw [vcn, hs.2 12 (by omega)]
      have hva : vcn S0 n ≤ 99 := by rw [d5]; have := hnode.2.1.2.2.2.1; omega
      have hA : A n ≤ 6000 := by have := hnode.2.1; omega
      rw [hc.2.2.2, hs.2 12 (by omega), d3, d4, nI_add, pk_sub (by omega)] at hle
      have hle2 : a + vcn S0 n ≤ 6000 := by
        have := (nI_leI (a := a + (A n + vcn S0 n) - A n) (b := 6000) (by omega) (by omega)).1 hle
        omega
      rw [ex, elo, ehi, evc, hc.1] at h
      obtain ⟨g1, g2, g3, g4, g5, g6, g7, g8, g9, g10, g11, g12⟩ := pi_en_val (n := n) (out := out) (call := call) hc (by omega)
      rw [hs.2 16 (by omega), d2, nI_add] at g2
      rw [hs.2 17 (by omega), d1, nI_add] at g3
      have sen := hs.tr (pi_en_same (S := S) (n := n) (out := out) (call := call))
      generalize pi_en S n out call = S1 at h g1 g2 g3 g4 g5 g6 g7 g8 g9 g10 g11 g12 sen
      obtain ⟨v1, v2, v3, v4, v5⟩ := pi_vs_val (x := nI x) (a := a) (vcn S0 n) 0 S1 g4 (by omega)
      have sv := sen.tr (pi_vs_same (x := nI x) (vcn S0 n) 0 S1)
      generalize pi_vs (nI x) (vcn S0 n) 0 S1 = S2 at h v1 v2 v3 v4 v5 sv
      rw [ts] at hx hcc hss
      have e1 : one1 n = 1 := rfl
      rw [e1] at hx
      have hR : pr_R S0 S2 x (x + 1) (fun y => if y = x then a else a + vcn S0 n) (fun y => if y = x then s else s + stn S0 n) (fun y => if y = x then c else c + kcn S0 n) := by
        intro y y1 y2
        have ey : y = x := by omega
        subst ey
        refine ⟨n, by rw [v5 56 (by omega) (by omega)]; exact g5, hn, ?_, ?_, ?_, ?_, ?_, ?_, fun i hi => ?_⟩
        · show _ = nI (if y = y then a else a + vcn S0 n)
          rw [v5 59 (by omega) (by omega), if_pos rfl]; exact g8
        · show _ = nI (if y = y then s else s + stn S0 n)
          rw [v5 60 (by omega) (by omega), if_pos rfl]; exact g9
        · show _ = nI (if y = y then c else c + kcn S0 n)
          rw [v5 61 (by omega) (by omega), if_pos rfl]; exact g10
        · show (if y + 1 = y then a else a + vcn S0 n) = (if y = y then a else a + vcn S0 n) + vcn S0 n
          rw [if_pos rfl, if_neg (by omega)]
        · show (if y + 1 = y then s else s + stn S0 n) = (if y = y then s else s + stn S0 n) + stn S0 n
          rw [if_pos rfl, if_neg (by omega)]
        · show (if y + 1 = y then c else c + kcn S0 n) = (if y = y then c else c + kcn S0 n) + kcn S0 n
          rw [if_pos rfl, if_neg (by omega)]
        · show S2.2 63 ((if y = y then a else a + vcn S0 n) + i) = nI y ∧ S2.2 64 ((if y = y then a else a + vcn S0 n) + i) = nI i
          rw [if_pos rfl]
          exact v2 i (Nat.zero_le _) (by omega)
      have hlohi : pn_lo S0 n ≤ pn_hi S0 n := by
        obtain ⟨l1, l2⟩ := nf_lohi hnode
        rw [l1, l2]
        exact hnode.2.1.2.2.2.2.2.2.2.2.2.2.2.2.1
      obtain ⟨B', M', C', w1, w2, w3, w4, w5, w6, w7, ⟨w8, w9, w10, w11, w12, w13⟩, w14, w15, w16⟩ := pi_es_full hF hn IH hnf (pn_hi S0 n - pn_lo S0 n) (pn_lo S0 n) S2 S' (x + 1) (c + kcn S0 n) (s + stn S0 n) (a + vcn S0 n) _ _ _ h (by omega) (Nat.le_refl _) sv ⟨by rw [v4 50 (by omega)]; exact g1, by rw [v4 54 (by omega)]; exact g2, by rw [v4 52 (by omega)]; exact g3, v1⟩ hle2 (by omega) (by omega) (by omega) (by omega) hR (if_neg (by omega)) (if_neg (by omega)) (if_neg (by omega)) (if_pos rfl) (if_neg (by omega)) (fun y y1 y2 => by omega) (fun y y1 y2 => by omega) (fun y y1 y2 => by omega) (by rw [v5 56 (by omega) (by omega)]; exact g5)
      have t1 : ts one1 S0 (f + 1) n = 1 + ts_e (ts one1 S0 f) S0 (pn_hi S0 n - pn_lo S0 n) (pn_lo S0 n) := by rw [ts]; rfl
      have t2 : ts (kcn S0) S0 (f + 1) n = kcn S0 n + ts_e (ts (kcn S0) S0 f) S0 (pn_hi S0 n - pn_lo S0 n) (pn_lo S0 n) := by rw [ts]
      have t3 : ts (stn S0) S0 (f + 1) n = stn S0 n + ts_e (ts (stn S0) S0 f) S0 (pn_hi S0 n - pn_lo S0 n) (pn_lo S0 n) := by rw [ts]
      have t4 : ts (vcn S0) S0 (f + 1) n = vcn S0 n + ts_e (ts (vcn S0) S0 f) S0 (pn_hi S0 n - pn_lo S0 n) (pn_lo S0 n) := by rw [ts]
      unfold pi_G
      rw [t1, t2, t3, t4, ← Nat.add_assoc, ← Nat.add_assoc, ← Nat.add_assoc, ← Nat.add_assoc]
      refine ⟨B', M', C', w1, w2, w3, ⟨fun q j a b d => ?_, fun j hj => ?_, fun q j hq hj => ?_⟩, w7, ⟨by rw [w8]; exact if_pos rfl, w11, by rw [w9]; exact if_pos rfl, w12, by rw [w10]; exact if_pos rfl, w13⟩, fun y y1 y2 => ?_, w16, ?_, ?_, ?_⟩
      · rw [w4 q j a b (by omega), v5 q (by omega) (by omega), g11 q j (by omega)]
      · rw [w5 j hj, v5 62 (by omega) (by omega), g12 62 (by omega)]
      · rw [w6 q j hq (by omega), v3 q j hq (by omega), g12 q (by omega)]
      · rcases Nat.lt_or_ge x y with u | u
        · exact w14 y u y2
        · have ey : y = x := by omega
          subst ey
          intro n8 u1 u2 e u3 u4 u5
          have en : n8 = n := by
            rw [w4 56 y (by omega) (by omega) (by omega), v5 56 (by omega) (by omega), g5] at u1
            have := pr_N60 hF
            exact ((nI_eq (by omega) (by omega)).1 u1).symm
          subst en
          have hC0 : C' y = c := by rw [w10]; exact if_pos rfl
          rw [hC0]
          exact w15 e u3 u4 u5
      · rw [w4 56 x (by omega) (by omega) (by omega), v5 56 (by omega) (by omega)]; exact g5
      · rw [w4 57 x (by omega) (by omega) (by omega), v5 57 (by omega) (by omega)]; exact g6
      · rw [w4 58 x (by omega) (by omega) (by omega), v5 58 (by omega) (by omega)]; exact g7
    · cases h
end
