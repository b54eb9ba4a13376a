/-! peek, take of the reference -/
set_option maxRecDepth 100000
theorem lx_word_V {z : MZ} {jm : MJ} {n w : Nat} {σ : MS} {p t a : Int32} (hn : n ≤ 65536) (hs : σ.1 1 = nI n) (hd : 1 ≤ jm.1) (K : ∀ E, ml_V z mX6_peek jm 140 [(0, vR (some z.2.1))] [] (lx_st σ p t a (nI w)) E jm.2.1) : ∀ f e E, n ≤ e + f → e ≤ n → lx_wend (σ.2 0) n e = w → ml_V z mX6_peek jm 72 [(0, vR (some z.2.1))] [] (lx_st σ p t a (nI e)) E jm.2.1 := by
  intro f
  induction f with
  | zero =>
    intro e E h1 h2 he
    refine mbpeek_72 (fun _ => ?_) (fun h => absurd ?_ h)
    · have h3 : w = e := by rw [← he, lx_wend_0 (by omega)]
      subst h3
      exact K _
    · show σ.1 1 ≤ nI e
      rw [hs]
      exact nI_le (by omega) (by omega)
  | succ f ih =>
    intro e E h1 h2 he
    refine mbpeek_72 (fun h => ?_) (fun h => ?_)
    · have h' : nI n ≤ nI e := by rw [← hs]; exact h
      have h4 := (nI_leI (by omega) (by omega)).1 h'
      have h3 : w = e := by rw [← he, lx_wend_0 (by omega)]
      subst h3
      exact K _
    have h' : ¬ nI n ≤ nI e := by rw [← hs]; exact h
    have hpn : e < n := Nat.lt_of_not_le (fun q => h' (nI_le q (by omega)))
    have hcl : (nI e).toNatClampNeg = e := nI_clamp (by omega)
    have hb : (lx_st σ p t a (nI e)).2 0 ((lx_st σ p t a (nI e)).1 8).toNatClampNeg = σ.2 0 e := by
      show σ.2 0 (nI e).toNatClampNeg = _
      rw [hcl]
    have go : ∀ E, (lx_lt (σ.2 0 e) ∨ lx_dg (σ.2 0 e) ∨ σ.2 0 e = 95) → ml_V z mX6_peek jm 127 [(0, vR (some z.2.1))] [] (lx_st σ p t a (nI e)) E jm.2.1 := by
      intro E hw
      refine mbpeek_127 ?_
      have h6 : ml_sf (lx_st σ p t a (nI e)) 8 ((lx_st σ p t a (nI e)).1 8 + 1) = lx_st σ p t a (nI (e + 1)) := by
        rw [lx_st_8, ← nI_1]
        rfl
      rw [h6]
      exact ih (e + 1) _ (by omega) (by omega) (by rw [← he, lx_wend_1 ⟨hpn, hw⟩])
    refine mbpeek_83 (vp_in_nI (by omega) (by decide)) (X6_letter_C (d := 0)) hd (Nat.zero_le _) (ml_pure ?_) ml_no
    rw [hb]
    refine mbpeek_95 (fun q => go _ (Or.inl (Decidable.byContradiction fun u => q (lx_b0.2 u)))) (fun q => ?_)
    have q1 := lx_b0.1 q
    refine mbpeek_98 (vp_in_nI (by omega) (by decide)) (X6_digit_C (d := 0)) hd (Nat.zero_le _) (ml_pure ?_) ml_no
    rw [hb]
    refine mbpeek_110 (fun q => go _ (Or.inr (Or.inl (Decidable.byContradiction fun u => q (lx_b0.2 u))))) (fun q => ?_)
    have q2 := lx_b0.1 q
    refine mbpeek_113 (vp_in_nI (by omega) (by decide)) (fun q3 => ?_) (fun q3 => ?_)
    · rw [hb] at q3
      have h3 : w = e := by rw [← he, lx_wend_0 (fun u => u.2.elim q1 (fun u => u.elim q2 q3))]
      subst h3
      exact K _
    · rw [hb] at q3
      exact go _ (Or.inr (Or.inr q3))
theorem lx_num_V {z : MZ} {jm : MJ} {n w : Nat} {σ : MS} {p t a : Int32} (hn : n ≤ 65536) (hs : σ.1 1 = nI n) (hd : 1 ≤ jm.1) (K : ∀ E, ml_V z mX6_peek jm 212 [(0, vR (some z.2.1))] [] (lx_st σ p t a (nI w)) E jm.2.1) : ∀ f e E, n ≤ e + f → e ≤ n → lx_dend (σ.2 0) n e = w → ml_V z mX6_peek jm 173 [(0, vR (some z.2.1))] [] (lx_st σ p t a (nI e)) E jm.2.1 := by
  intro f
  induction f with
  | zero =>
    intro e E h1 h2 he
    refine mbpeek_173 (fun _ => ?_) (fun h => absurd ?_ h)
    · have h3 : w = e := by rw [← he, lx_dend_0 (by omega)]
      subst h3
      exact K _
    · show σ.1 1 ≤ nI e
      rw [hs]
      exact nI_le (by omega) (by omega)
  | succ f ih =>
    intro e E h1 h2 he
    refine mbpeek_173 (fun h => ?_) (fun h => ?_)
    · have h' : nI n ≤ nI e := by rw [← hs]; exact h
      have h4 := (nI_leI (by omega) (by omega)).1 h'
      have h3 : w = e := by rw [← he, lx_dend_0 (by omega)]
      subst h3
      exact K _
    have h' : ¬ nI n ≤ nI e := by rw [← hs]; exact h
    have hpn : e < n := Nat.lt_of_not_le (fun q => h' (nI_le q (by omega)))
    have hcl : (nI e).toNatClampNeg = e := nI_clamp (by omega)
    have hb : (lx_st σ p t a (nI e)).2 0 ((lx_st σ p t a (nI e)).1 8).toNatClampNeg = σ.2 0 e := by
      show σ.2 0 (nI e).toNatClampNeg = _
      rw [hcl]
    refine mbpeek_184 (vp_in_nI (by omega) (by decide)) (X6_digit_C (d := 0)) hd (Nat.zero_le _) (ml_pure ?_) ml_no
    rw [hb]
    refine mbpeek_196 (fun q => ?_) (fun q => ?_)
    · have q1 := lx_b0.1 q
      have h3 : w = e := by rw [← he, lx_dend_0 (fun u => q1 u.2)]
      subst h3
      exact K _
    · have q1 : lx_dg (σ.2 0 e) := Decidable.byContradiction fun u => q (lx_b0.2 u)
      refine mbpeek_199 ?_
      have h6 : ml_sf (lx_st σ p t a (nI e)) 8 ((lx_st σ p t a (nI e)).1 8 + 1) = lx_st σ p t a (nI (e + 1)) := by
        rw [lx_st_8, ← nI_1]
        rfl
      rw [h6]
      exact ih (e + 1) _ (by omega) (by omega) (by rw [← he, lx_dend_1 ⟨hpn, q1⟩])
/-- what the reference's lexer stands at: c is the place of the next token -/
def lx_S (n c : Nat) (σ : MS) : Prop := c ≤ n ∧ σ.1 5 = nI c ∧ σ.1 9 = 1 ∧ σ.1 7 = nI c ∧ σ.1 8 = nI (lx_end (σ.2 0) n c) ∧ σ.1 6 = lx_kind (σ.2 0) n c
def lx_I (n c : Nat) (σ : MS) : Prop := n ≤ 65536 ∧ σ.1 1 = nI n ∧ ((σ.1 9 = 0 ∧ ∃ p, p ≤ n ∧ σ.1 5 = nI p ∧ c = lx_skip (σ.2 0) n p) ∨ lx_S n c σ)
/-- the state without its lexer -/
def lx_nz (σ : MS) : MS := (fun k => if 5 ≤ k ∧ k ≤ 9 then 0 else σ.1 k, σ.2)
theorem lx_nz_st {σ : MS} {p t a e : Int32} : lx_nz (lx_st σ p t a e) = lx_nz σ := by
  refine Prod.ext (funext fun k => ?_) rfl
  show (if 5 ≤ k ∧ k ≤ 9 then 0 else if k = 5 then p else if k = 6 then t else if k = 7 then a else if k = 8 then e else if k = 9 then 1 else σ.1 k) = if 5 ≤ k ∧ k ≤ 9 then 0 else σ.1 k
  repeat' split
  all_goals first | rfl | omega
theorem X6_peek_C {z : MZ} {d n c : Nat} {σ : MS} (h : lx_I n c σ) (hd : 2 ≤ d) : ml_C z mX6_peek d 0 [vR (some z.2.1)] σ (fun v σ' _ => v = some (vI (lx_kind (σ.2 0) n c)) ∧ lx_nz σ' = lx_nz σ ∧ lx_S n c σ') (fun _ _ _ => False) := by
  obtain ⟨hn, hs, h⟩ := h
  refine ml_C_of (by decide) rfl (Nat.le_of_ble_eq_true rfl) ?_
  have hd1 : 1 ≤ d := by omega
  refine mbpeek_0 (fun h0 => ?_) (fun h0 => ?_)
  · rcases h with ⟨-, p, hp, h5, hc⟩ | h
    · have hcn : c ≤ n := by rw [hc]; exact (lx_skip_ge n p (by omega) hp).2
      refine mbpeek_12 (X6_parts_C hn hs hp h5 (Nat.le_refl 1)) hd (Nat.zero_le _) (ml_pure0 ?_) ml_no
      rw [← hc]
      refine mbpeek_16 ?_
      have e1 : ml_sf (ml_sf (ml_sf (ml_sf (ml_sf σ 5 (nI c)) 9 1) 7 ((ml_sf σ 5 (nI c)).1 5)) 8 ((ml_sf σ 5 (nI c)).1 5)) 6 0 = lx_st σ (nI c) 0 (nI c) (nI c) := lx_st_new
      rw [e1]
      have hcl : (nI c).toNatClampNeg = c := nI_clamp (by omega)
      have fin : ∀ E t e, lx_kind (σ.2 0) n c = t → lx_end (σ.2 0) n c = e → ml_V z mX6_peek (d, 0, (fun v σ' _ => v = some (vI (lx_kind (σ.2 0) n c)) ∧ lx_nz σ' = lx_nz σ ∧ lx_S n c σ'), fun _ _ _ => False) 286 [(0, vR (some z.2.1))] [] (lx_st σ (nI c) t (nI c) (nI e)) E 0 := by
        intro E t e ht he
        refine mbpeek_286 (fun G _ => ⟨?_, lx_nz_st, hcn, rfl, rfl, rfl, ?_, ?_⟩)
        · rw [ht]; rfl
        · show nI e = nI (lx_end (σ.2 0) n c); rw [he]
        · show t = lx_kind (σ.2 0) n c; rw [ht]
      have hb : ∀ t e : Int32, (lx_st σ (nI c) t (nI c) e).2 0 ((lx_st σ (nI c) t (nI c) e).1 5).toNatClampNeg = σ.2 0 c := fun t e => by
        show σ.2 0 (nI c).toNatClampNeg = _
        rw [hcl]
      refine mbpeek_42 (fun q => ?_) (fun q => ?_)
      · have hlt : c < n := Nat.lt_of_not_le fun u => q (by
          have : c = n := by omega
          show nI c = σ.1 1
          rw [hs, this])
        refine mbpeek_55 (vp_in_nI (by omega) (by decide)) (X6_letter_C (d := 0)) hd1 (Nat.zero_le _) (ml_pure ?_) ml_no
        rw [hb]
        refine mbpeek_69 (fun q => ?_) (fun q => ?_)
        · have q1 := lx_b0.1 q
          refine mbpeek_166 (X6_digit_C (d := 0)) hd1 (Nat.zero_le _) (ml_pure ?_) ml_no
          refine mbpeek_170 (fun q => ?_) (fun q => ?_)
          · have q2 := lx_b0.1 q
            have e8 : ml_sf (lx_st σ (nI c) 0 (nI c) (nI c)) 8 ((lx_st σ (nI c) 0 (nI c) (nI c)).1 5 + 1) = lx_st σ (nI c) 0 (nI c) (nI (c + 1)) := by
              rw [lx_st_8, ← nI_1]
              rfl
            have e9 : (lx_st σ (nI c) 0 (nI c) (nI c)).1 5 + 1 = nI (c + 1) := by
              rw [← nI_1]
              rfl
            refine mbpeek_238 (P := fun v σ' _ => v = some (vI (lx_at (σ.2 0) n (c + 1))) ∧ σ' = lx_st σ (nI c) 0 (nI c) (nI (c + 1))) (PX := fun _ _ _ => False) (d' := 0) (b' := 0) ?_ hd1 (Nat.zero_le _) (ml_pure ?_) ml_no
            · rw [e8, e9]
              exact X6_byteAt_C (σ := lx_st σ (nI c) 0 (nI c) (nI (c + 1))) hn hs (by omega)
            · refine mbpeek_260 (X6_sign_C (d := 0)) hd1 (Nat.zero_le _) (ml_pure ?_) ml_no
              have k1 : lx_kind (σ.2 0) n c = lx_sign (σ.2 0 c) (lx_at (σ.2 0) n (c + 1)) := by rw [lx_kind, if_neg (by omega), if_neg q1, if_neg q2]
              refine mbpeek_263 (fun q3 => ?_) (fun q3 => ?_)
              · rw [lx_st_6]
                have q4 : lx_sign (σ.2 0 c) (lx_at (σ.2 0) n (c + 1)) ≤ 299 := q3
                exact fin _ _ _ k1 (by rw [lx_end, if_neg (by omega), if_neg q1, if_neg q2, if_neg (fun u => Int32.not_lt.2 q4 u)])
              · rw [lx_st_6]
                have q4 : ¬ lx_sign (σ.2 0 c) (lx_at (σ.2 0) n (c + 1)) ≤ 299 := q3
                refine mbpeek_276 ?_
                have e2 : ml_sf (lx_st σ (nI c) (lx_sign (σ.2 0 c) (lx_at (σ.2 0) n (c + 1))) (nI c) (nI (c + 1))) 8 ((lx_st σ (nI c) (lx_sign (σ.2 0 c) (lx_at (σ.2 0) n (c + 1))) (nI c) (nI (c + 1))).1 8 + 1) = lx_st σ (nI c) (lx_sign (σ.2 0 c) (lx_at (σ.2 0) n (c + 1))) (nI c) (nI (c + 2)) := by
                  rw [lx_st_8, ← nI_1 (c + 1)]
                  rfl
                rw [e2]
                exact fin _ _ _ k1 (by rw [lx_end, if_neg (by omega), if_neg q1, if_neg q2, if_pos (Int32.not_le.1 q4)])
          · have q2 : lx_dg (σ.2 0 c) := Decidable.byContradiction fun u => q (lx_b0.2 u)
            have hw := lx_dend_ge (T := σ.2 0) (n := n) n c (by omega) hcn
            have k2 : lx_end (σ.2 0) n c = lx_dend (σ.2 0) n c := by rw [lx_end, if_neg (by omega), if_neg q1, if_pos q2]
            have e3 : nI (lx_dend (σ.2 0) n c) - nI c = nI (lx_dend (σ.2 0) n c - c) := pk_sub hw.1
            refine lx_num_V hn hs hd1 (fun E => ?_) n c _ (by omega) hcn rfl
            refine mbpeek_212 (fun q3 => ?_) (fun q3 => ?_)
            · have q4 : nI (lx_dend (σ.2 0) n c) - nI c ≤ nI 9 := q3
              rw [e3] at q4
              have q5 := (nI_leI (by omega) (by omega)).1 q4
              refine mbpeek_231 (mbpeek_232 ?_)
              rw [lx_st_6]
              exact fin _ _ _ (by rw [lx_kind, if_neg (by omega), if_neg q1, if_pos q2, if_pos (by omega)]) k2
            · have q4 : ¬ nI (lx_dend (σ.2 0) n c) - nI c ≤ nI 9 := q3
              rw [e3] at q4
              have q5 : ¬ lx_dend (σ.2 0) n c - c ≤ 9 := fun u => q4 ((nI_leI (by omega) (by omega)).2 u)
              refine mbpeek_227 (mbpeek_232 ?_)
              rw [lx_st_6]
              exact fin _ _ _ (by rw [lx_kind, if_neg (by omega), if_neg q1, if_pos q2, if_neg (by omega)]) k2
        · have q1 : lx_lt (σ.2 0 c) := Decidable.byContradiction fun u => q (lx_b0.2 u)
          have hw := lx_wend_ge (T := σ.2 0) (n := n) n c (by omega) hcn
          have k2 : lx_end (σ.2 0) n c = lx_wend (σ.2 0) n c := by rw [lx_end, if_neg (by omega), if_pos q1]
          have e3 : nI (lx_wend (σ.2 0) n c) - nI c = nI (lx_wend (σ.2 0) n c - c) := pk_sub hw.1
          refine lx_word_V hn hs hd1 (fun E => ?_) n c _ (by omega) hcn rfl
          refine mbpeek_140 (fun q3 => ?_) (fun q3 => ?_)
          · have q4 : nI (lx_wend (σ.2 0) n c) - nI c ≤ nI 31 := q3
            rw [e3] at q4
            have q5 := (nI_leI (by omega) (by omega)).1 q4
            refine mbpeek_159 (mbpeek_160 ?_)
            rw [lx_st_6]
            exact fin _ _ _ (by rw [lx_kind, if_neg (by omega), if_pos q1, if_pos (by omega)]) k2
          · have q4 : ¬ nI (lx_wend (σ.2 0) n c) - nI c ≤ nI 31 := q3
            rw [e3] at q4
            have q5 : ¬ lx_wend (σ.2 0) n c - c ≤ 31 := fun u => q4 ((nI_leI (by omega) (by omega)).2 u)
            refine mbpeek_155 (mbpeek_160 ?_)
            rw [lx_st_6]
            exact fin _ _ _ (by rw [lx_kind, if_neg (by omega), if_pos q1, if_neg (by omega)]) k2
      · have hge : n ≤ c := by
          have q' : nI c = nI n := by rw [← hs]; exact q
          have := (nI_eq (by omega) (by omega)).1 q'
          omega
        have k1 : lx_kind (σ.2 0) n c = 0 := by rw [lx_kind, if_pos hge]
        refine mbpeek_53 (fun G _ => ⟨?_, lx_nz_st, hcn, rfl, rfl, rfl, ?_, ?_⟩)
        · rw [k1]
        · show nI c = nI (lx_end (σ.2 0) n c); rw [lx_end, if_pos hge]
        · show 0 = lx_kind (σ.2 0) n c; rw [k1]
    · exact absurd (h.2.2.1.symm.trans h0) (by decide)
  · rcases h with ⟨h1, -⟩ | h
    · exact absurd h1 h0
    · exact mbpeek_7 (fun G _ => ⟨by rw [h.2.2.2.2.2], rfl, h⟩)
theorem lx_nz_2 {a b : MS} (h : lx_nz a = lx_nz b) : a.2 = b.2 := by
  have h1 : (lx_nz a).2 = (lx_nz b).2 := by rw [h]
  exact h1
theorem lx_nz_1 {a b : MS} (h : lx_nz a = lx_nz b) (k : Nat) (hk : ¬ (5 ≤ k ∧ k ≤ 9)) : a.1 k = b.1 k := by
  have h1 : (lx_nz a).1 k = (lx_nz b).1 k := by rw [h]
  have h2 : (if 5 ≤ k ∧ k ≤ 9 then 0 else a.1 k) = (if 5 ≤ k ∧ k ≤ 9 then 0 else b.1 k) := h1
  rw [if_neg hk, if_neg hk] at h2
  exact h2
theorem ml_kr {z : MZ} {M : MI} {jm : MJ} {pc r : Nat} {lv : List (Nat × WV)} {st : List WV} {Q : Option WV → MS → Prop} (k : ∀ v σ', Q v σ' → ml_V z M jm pc lv (v.toList ++ st) σ' (fun _ => True) r) : ∀ v σ', ml_V z M jm pc lv (v.toList ++ st) σ' (fun _ => Q v σ') r := fun v σ' G g1 g2 g3 => k v σ' g3 G g1 g2 trivial
/-- the state after 'take' -/
theorem X6_take_C {z : MZ} {d n c : Nat} {σ : MS} (h : lx_I n c σ) (hd : 3 ≤ d) : ml_C z mX6_take d 0 [vR (some z.2.1)] σ (fun v σ' _ => v = none ∧ lx_nz σ' = lx_nz σ ∧ σ'.1 9 = 0 ∧ σ'.1 5 = nI (lx_end (σ.2 0) n c)) (fun _ _ _ => False) := by
  refine ml_C_of (by decide) rfl (Nat.le_of_ble_eq_true rfl) ?_
  refine mbtake_0 (X6_peek_C h (Nat.le_refl 2)) hd (Nat.zero_le _) (ml_kr fun v σ' g3 => ?_) ml_no
  obtain ⟨rfl, h1, h2⟩ := g3
  refine mbtake_4 (fun G => ⟨rfl, ?_, rfl, ?_⟩)
  · rw [← h1]
    refine Prod.ext (funext fun k => ?_) rfl
    show (if 5 ≤ k ∧ k ≤ 9 then 0 else if k = 9 then 0 else if k = 5 then σ'.1 8 else σ'.1 k) = if 5 ≤ k ∧ k ≤ 9 then 0 else σ'.1 k
    repeat' split
    all_goals first | rfl | omega
  · have h3 : σ'.2 = σ.2 := lx_nz_2 h1
    have h4 := h2.2.2.2.2.1
    rw [h3] at h4
    exact h4
