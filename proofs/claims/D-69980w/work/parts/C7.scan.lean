/-! THE COMPONENT's READER: signs, digits, words -/
set_option maxRecDepth 100000
section
variable {z : RZ} {d : Nat} {G : GH}
/-- what a take leaves: the sign of the kind k, so many bytes long -/
def tk_G (z : RZ) (G : GH) (k : Int32) (m : Nat) : GH := hp_sI (hp_sR G z.2.1 6 (zg z.1 k)) z.2.1 4 (hp_i G z.2.1 3 + nI m)
theorem tk_nx {k : Int32} {m : Nat} {M : MI} {d' b pc' : Nat} {Q : Option WV → GH → Prop} {X : String → Nat → GH → Prop} {lv : List (Nat × WV)} {r : Nat} (kk : wk_V z.1 M (d', b, Q, X, hp_cs G, hp_ss G) pc' lv [] (tk_G z G k m) r) : ∀ v G', (v = none ∧ G' = hp_sI (hp_sR G z.2.1 6 (zg z.1 k)) z.2.1 4 (hp_i G z.2.1 3 + nI m)) → wk_V z.1 M (d', b, Q, X, hp_cs G, hp_ss G) pc' lv (v.toList ++ []) G' r := by
  rintro v G' ⟨rfl, rfl⟩
  exact kk
theorem X3_sign_C {x y : Int32} (h : rb z G) (hx : ¬ lx_lt x ∧ ¬ lx_dg x) (hd : 1 ≤ d) : wk_C z.1 mX3_sign d 0 [vR (some z.2.1), vI x, vI y] G (fun v G' => v = none ∧ G' = tk_G z G (lx_sign x y) (if 299 < lx_sign x y then 2 else 1)) (fun _ _ _ => False) := by
  have k1 := h.1.1
  refine wk_C_of (by decide) rfl (Nat.le_of_ble_eq_true rfl) ?_
  have no : ∀ E q G', (fun (_ : String) (_ : Nat) (_ : GH) => False) E q G' → wk_T z.1 mX3_sign (d, 0, (fun v G' => v = none ∧ G' = tk_G z G (lx_sign x y) (if 299 < lx_sign x y then 2 else 1)), (fun _ _ _ => False), hp_cs G, hp_ss G) 0 [] G' 0 E q := fun _ _ _ q => absurd q id
  have bad : lx_sign x y = 3 → wk_V z.1 mX3_sign (d, 0, (fun v G' => v = none ∧ G' = tk_G z G (lx_sign x y) (if 299 < lx_sign x y then 2 else 1)), (fun _ _ _ => False), hp_cs G, hp_ss G) 335 [(0, vR (some z.2.1))] [] G 0 := by
    intro e
    refine blX3_sign_335 k1 (X3_take_C (d := 0) (x := zg z.1 3) (k := nI 1) h) hd (Nat.zero_le _) (tk_nx (blX3_sign_343 ⟨rfl, ?_⟩)) (fun _ _ _ q => absurd q id)
    rw [e, if_neg (by decide)]
  refine blX3_sign_0 (fun e => ?_) (fun e => ?_) (fun e => ?_) (fun e => ?_) (fun e => ?_) (fun e => ?_) (fun e => bad (by subst e; rfl)) (fun e => bad (by subst e; rfl))
    (fun e => absurd (by subst e; decide) hx.2) (fun e => absurd (by subst e; decide) hx.2) (fun e => absurd (by subst e; decide) hx.2) (fun e => absurd (by subst e; decide) hx.2) (fun e => absurd (by subst e; decide) hx.2) (fun e => absurd (by subst e; decide) hx.2) (fun e => absurd (by subst e; decide) hx.2) (fun e => absurd (by subst e; decide) hx.2) (fun e => absurd (by subst e; decide) hx.2) (fun e => absurd (by subst e; decide) hx.2)
    (fun e => ?_) (fun e => ?_) (fun e => ?_) (fun e => ?_) (fun e => ?_) (fun e40 e41 e42 e43 e44 e45 _ _ _ _ _ _ _ _ _ _ _ _ e58 e59 e60 e61 e62 => bad ?_)
  · subst e
    exact blX3_sign_108 k1 (X3_take_C (d := 0) (x := zg z.1 40) (k := nI 1) h) hd (Nat.zero_le _) (tk_nx (blX3_sign_116 (blX3_sign_343 ⟨rfl, rfl⟩))) (fun _ _ _ q => absurd q id)
  · subst e
    exact blX3_sign_119 k1 (X3_take_C (d := 0) (x := zg z.1 41) (k := nI 1) h) hd (Nat.zero_le _) (tk_nx (blX3_sign_127 (blX3_sign_343 ⟨rfl, rfl⟩))) (fun _ _ _ q => absurd q id)
  · subst e
    exact blX3_sign_174 k1 (X3_take_C (d := 0) (x := zg z.1 42) (k := nI 1) h) hd (Nat.zero_le _) (tk_nx (blX3_sign_182 (blX3_sign_343 ⟨rfl, rfl⟩))) (fun _ _ _ q => absurd q id)
  · subst e
    exact blX3_sign_163 k1 (X3_take_C (d := 0) (x := zg z.1 43) (k := nI 1) h) hd (Nat.zero_le _) (tk_nx (blX3_sign_171 (blX3_sign_343 ⟨rfl, rfl⟩))) (fun _ _ _ q => absurd q id)
  · subst e
    exact blX3_sign_152 k1 (X3_take_C (d := 0) (x := zg z.1 44) (k := nI 1) h) hd (Nat.zero_le _) (tk_nx (blX3_sign_160 (blX3_sign_343 ⟨rfl, rfl⟩))) (fun _ _ _ q => absurd q id)
  · subst e
    have es : lx_sign 45 y = if y = 62 then 303 else 45 := rfl
    refine blX3_sign_185 (fun q => ?_) (fun q => ?_)
    · rw [if_neg q] at es
      refine blX3_sign_198 (blX3_sign_201 (fun _ => blX3_sign_211 ?_) (fun u => absurd u q))
      refine blX3_sign_212 rfl k1 (X3_take_C (d := 0) (x := zg z.1 45) (k := nI 1) h) hd (Nat.zero_le _) (tk_nx (blX3_sign_215 (blX3_sign_343 ⟨rfl, ?_⟩))) (fun _ _ _ q => absurd q id)
      rw [es]; rfl
    · rw [if_pos q] at es
      refine blX3_sign_192 (blX3_sign_201 (fun u => absurd q u) (fun _ => blX3_sign_207 ?_))
      refine blX3_sign_212 rfl k1 (X3_take_C (d := 0) (x := zg z.1 303) (k := nI 2) h) hd (Nat.zero_le _) (tk_nx (blX3_sign_215 (blX3_sign_343 ⟨rfl, ?_⟩))) (fun _ _ _ q => absurd q id)
      rw [es]; rfl
  · subst e
    exact blX3_sign_130 k1 (X3_take_C (d := 0) (x := zg z.1 58) (k := nI 1) h) hd (Nat.zero_le _) (tk_nx (blX3_sign_138 (blX3_sign_343 ⟨rfl, rfl⟩))) (fun _ _ _ q => absurd q id)
  · subst e
    exact blX3_sign_141 k1 (X3_take_C (d := 0) (x := zg z.1 59) (k := nI 1) h) hd (Nat.zero_le _) (tk_nx (blX3_sign_149 (blX3_sign_343 ⟨rfl, rfl⟩))) (fun _ _ _ q => absurd q id)
  · subst e
    have es : lx_sign 60 y = if y = 62 then 300 else if y = 61 then 301 else 60 := rfl
    refine blX3_sign_251 (fun q => ?_) (fun q => ?_)
    · rw [if_neg q] at es
      refine blX3_sign_264 (fun q2 => ?_) (fun q2 => ?_)
      · rw [if_neg q2] at es
        refine blX3_sign_276 (blX3_sign_279 (fun u => absurd u q) (fun _ => blX3_sign_285 (fun _ => blX3_sign_295 ?_) (fun u => absurd u q2)))
        refine blX3_sign_296 rfl k1 (X3_take_C (d := 0) (x := zg z.1 60) (k := nI 1) h) hd (Nat.zero_le _) (tk_nx (blX3_sign_299 (blX3_sign_343 ⟨rfl, ?_⟩))) (fun _ _ _ q => absurd q id)
        rw [es]; rfl
      · rw [if_pos q2] at es
        refine blX3_sign_270 (blX3_sign_279 (fun u => absurd u q) (fun _ => blX3_sign_285 (fun u => absurd q2 u) (fun _ => blX3_sign_291 ?_)))
        refine blX3_sign_296 rfl k1 (X3_take_C (d := 0) (x := zg z.1 301) (k := nI 2) h) hd (Nat.zero_le _) (tk_nx (blX3_sign_299 (blX3_sign_343 ⟨rfl, ?_⟩))) (fun _ _ _ q => absurd q id)
        rw [es]; rfl
    · rw [if_pos q] at es
      refine blX3_sign_258 (blX3_sign_279 (fun _ => blX3_sign_291 ?_) (fun u => absurd q u))
      refine blX3_sign_296 rfl k1 (X3_take_C (d := 0) (x := zg z.1 300) (k := nI 2) h) hd (Nat.zero_le _) (tk_nx (blX3_sign_299 (blX3_sign_343 ⟨rfl, ?_⟩))) (fun _ _ _ q => absurd q id)
      rw [es]; rfl
  · subst e
    have es : lx_sign 61 y = if y = 62 then 304 else 61 := rfl
    refine blX3_sign_218 (fun q => ?_) (fun q => ?_)
    · rw [if_neg q] at es
      refine blX3_sign_231 (blX3_sign_234 (fun _ => blX3_sign_244 ?_) (fun u => absurd u q))
      refine blX3_sign_245 rfl k1 (X3_take_C (d := 0) (x := zg z.1 61) (k := nI 1) h) hd (Nat.zero_le _) (tk_nx (blX3_sign_248 (blX3_sign_343 ⟨rfl, ?_⟩))) (fun _ _ _ q => absurd q id)
      rw [es]; rfl
    · rw [if_pos q] at es
      refine blX3_sign_225 (blX3_sign_234 (fun u => absurd q u) (fun _ => blX3_sign_240 ?_))
      refine blX3_sign_245 rfl k1 (X3_take_C (d := 0) (x := zg z.1 304) (k := nI 2) h) hd (Nat.zero_le _) (tk_nx (blX3_sign_248 (blX3_sign_343 ⟨rfl, ?_⟩))) (fun _ _ _ q => absurd q id)
      rw [es]; rfl
  · subst e
    have es : lx_sign 62 y = if y = 61 then 302 else 62 := rfl
    refine blX3_sign_302 (fun q => ?_) (fun q => ?_)
    · rw [if_neg q] at es
      refine blX3_sign_315 (blX3_sign_318 (fun _ => blX3_sign_328 ?_) (fun u => absurd u q))
      refine blX3_sign_329 rfl k1 (X3_take_C (d := 0) (x := zg z.1 62) (k := nI 1) h) hd (Nat.zero_le _) (tk_nx (blX3_sign_332 (blX3_sign_343 ⟨rfl, ?_⟩))) (fun _ _ _ q => absurd q id)
      rw [es]; rfl
    · rw [if_pos q] at es
      refine blX3_sign_309 (blX3_sign_318 (fun u => absurd q u) (fun _ => blX3_sign_324 ?_))
      refine blX3_sign_329 rfl k1 (X3_take_C (d := 0) (x := zg z.1 302) (k := nI 2) h) hd (Nat.zero_le _) (tk_nx (blX3_sign_332 (blX3_sign_343 ⟨rfl, ?_⟩))) (fun _ _ _ q => absurd q id)
      rw [es]; rfl
  · unfold lx_sign
    rw [if_neg (by simp [e40, e41, e42, e43, e44, e58, e59]), if_neg e61, if_neg e60, if_neg e62, if_neg e45]
theorem pr_dig_snoc {T : Nat → Int32} {e : Nat} : ∀ m k v, k + m = e → pr_dig T (e + 1) k v = 10 * pr_dig T e k v + T e - 48 := by
  intro m
  induction m with
  | zero =>
    intro k v hk
    have : k = e := by omega
    subst this
    rw [pr_dig_1 (by omega), pr_dig_0 (by omega), pr_dig_0 (by omega)]
  | succ m ih =>
    intro k v hk
    rw [pr_dig_1 (T := T) (e := e + 1) (k := k) (by omega), pr_dig_1 (T := T) (e := e) (k := k) (by omega)]
    exact ih (k + 1) _ (by omega)
/-- among the digits from c on, at i -/
def dg_I (z : RZ) (G0 G : GH) (c i : Nat) : Prop := rb z G ∧ hp_i G z.2.1 3 = nI c ∧ (i ≤ c + 9 → hp_i G z.2.1 5 = pr_dig (rz_T z) i c 0) ∧ cf (fun a => a = z.2.1) G0 G ∧ (∀ k, k ≠ 5 → hp_i G z.2.1 k = hp_i G0 z.2.1 k) ∧ ∀ k, hp_r G z.2.1 k = hp_r G0 z.2.1 k
theorem X3_digits_C {c : Nat} (h : rb z G) (h3 : hp_i G z.2.1 3 = nI c) (hc : c ≤ rz_n z) (hd : 1 ≤ d) : wk_C z.1 mX3_digits d 0 [vR (some z.2.1)] G
    (fun v G' => v = none ∧ ∃ G1, G' = tk_G z G1 (if lx_dend (rz_T z) (rz_n z) c ≤ c + 9 then 2 else 3) (lx_dend (rz_T z) (rz_n z) c - c) ∧ dg_I z G G1 c (lx_dend (rz_T z) (rz_n z) c)) (fun _ _ _ => False) := by
  have k1 := h.1.1
  have kA := h.1.2.1
  have hn := h.2.2.2.1
  refine wk_C_of (by decide) rfl (Nat.le_of_ble_eq_true rfl) ?_
  refine blX3_digits_0 k1 kA ?_
  have e3 : hp_i (hp_sI G z.2.1 5 0) z.2.1 3 = nI c := by rw [hp_i_sI, if_pos rfl, if_neg (by decide)]; exact h3
  rw [e3]
  have hI0 : dg_I z G (hp_sI G z.2.1 5 0) c c := by
    refine ⟨h.sI (by decide), e3, fun _ => ?_, cf.rf.sI (Or.inl rfl), fun k hk => ?_, fun _ => rfl⟩
    · rw [hp_i_sI, if_pos rfl, if_pos rfl, pr_dig_0 (by omega)]
    · rw [hp_i_sI, if_pos rfl, if_neg hk]
  generalize he : lx_dend (rz_T z) (rz_n z) c = e
  have hge := lx_dend_ge (T := rz_T z) (n := rz_n z) (rz_n z) c (by omega) hc
  rw [he] at hge
  have out : ∀ G1, dg_I z G G1 c e → wk_V z.1 mX3_digits (d, 0, (fun v G' => v = none ∧ ∃ G1, G' = tk_G z G1 (if e ≤ c + 9 then 2 else 3) (e - c) ∧ dg_I z G G1 c e), (fun _ _ _ => False), hp_cs G, hp_ss G) 58 [(0, vR (some z.2.1)), (1, vI (nI e))] [] G1 0 := by
    intro G1 hI
    have j1 := hI.1.1.1
    refine blX3_digits_58 j1 (fun q => ?_) (fun q => ?_)
    · rw [hI.2.1, pk_sub hge.1] at q
      have hle : e ≤ c + 9 := by
        have := (nI_leI (a := e - c) (b := 9) (by omega) (by decide)).1 q
        omega
      refine blX3_digits_76 (blX3_digits_79 j1 rfl j1 (by rw [hI.2.1, pk_sub hge.1]; exact X3_take_C (d := 0) (x := zg z.1 2) (k := nI (e - c)) hI.1) hd (Nat.zero_le _) ?_ (fun _ _ _ q => absurd q id))
      rintro v G' ⟨rfl, rfl⟩
      exact blX3_digits_88 ⟨rfl, G1, by rw [if_pos hle]; rfl, hI⟩
    · rw [hI.2.1, pk_sub hge.1] at q
      have hle : ¬ e ≤ c + 9 := fun u => q (show nI (e - c) ≤ nI 9 from nI_le (by omega) (by decide))
      refine blX3_digits_70 (blX3_digits_79 j1 rfl j1 (by rw [hI.2.1, pk_sub hge.1]; exact X3_take_C (d := 0) (x := zg z.1 3) (k := nI (e - c)) hI.1) hd (Nat.zero_le _) ?_ (fun _ _ _ q => absurd q id))
      rintro v G' ⟨rfl, rfl⟩
      exact blX3_digits_88 ⟨rfl, G1, by rw [if_neg hle]; rfl, hI⟩
  have step : ∀ i G1, i ≤ rz_n z → lx_dend (rz_T z) (rz_n z) i = e → dg_I z G G1 c i → (i < rz_n z ∧ lx_dg (rz_T z i) → wk_V z.1 mX3_digits (d, 0, (fun v G' => v = none ∧ ∃ G1, G' = tk_G z G1 (if e ≤ c + 9 then 2 else 3) (e - c) ∧ dg_I z G G1 c e), (fun _ _ _ => False), hp_cs G, hp_ss G) 21 [(0, vR (some z.2.1)), (1, vI (nI i))] [] G1 0) → wk_V z.1 mX3_digits (d, 0, (fun v G' => v = none ∧ ∃ G1, G' = tk_G z G1 (if e ≤ c + 9 then 2 else 3) (e - c) ∧ dg_I z G G1 c e), (fun _ _ _ => False), hp_cs G, hp_ss G) 10 [(0, vR (some z.2.1)), (1, vI (nI i))] [] G1 0 := by
    intro i G1 hin hei hI kk
    refine blX3_digits_10 hI.1.1.1 (X3_look_C (d := 0) hI.1 (by omega)) hd (Nat.zero_le _) ?_ (fun _ _ _ q => absurd q id)
    rintro v G' ⟨rfl, rfl⟩
    refine blX3_digits_15 (X3_digit_C (d := 0)) hd (Nat.zero_le _) ?_ (fun _ _ _ q => absurd q id)
    rintro v G2 ⟨rfl, rfl⟩
    refine blX3_digits_18 (fun q => ?_) (fun q => kk (lk_dg.1 (lx_b1 q)))
    have hq := lx_b0.1 q
    have ee : i = e := by
      rw [← hei, lx_dend_0]
      exact fun u => hq (lk_dg.2 u)
    subst ee
    exact out _ hI
  have loop : ∀ f i G1, rz_n z ≤ i + f → c ≤ i → i ≤ rz_n z → lx_dend (rz_T z) (rz_n z) i = e → dg_I z G G1 c i → wk_V z.1 mX3_digits (d, 0, (fun v G' => v = none ∧ ∃ G1, G' = tk_G z G1 (if e ≤ c + 9 then 2 else 3) (e - c) ∧ dg_I z G G1 c e), (fun _ _ _ => False), hp_cs G, hp_ss G) 10 [(0, vR (some z.2.1)), (1, vI (nI i))] [] G1 0 := by
    intro f
    induction f with
    | zero =>
      intro i G1 hf hci hin hei hI
      exact step i G1 hin hei hI (fun u => by omega)
    | succ f ih =>
      intro i G1 hf hci hin hei hI
      refine step i G1 hin hei hI (fun u => ?_)
      have hei' : lx_dend (rz_T z) (rz_n z) (i + 1) = e := by rw [← hei, lx_dend_1 u]
      obtain ⟨i1, i2, i3, i4, i5, i6⟩ := id hI
      refine blX3_digits_21 i1.1.1 (fun q => ?_) (fun q => ?_)
      · rw [i2, pk_sub hci] at q
        have h9 := (nI_leI (a := 9) (b := i - c) (by decide) (by omega)).1 q
        refine blX3_digits_52 ?_
        rw [nI_1]
        exact ih (i + 1) G1 (by omega) (by omega) (by omega) hei' ⟨i1, i2, fun v => by omega, i4, i5, i6⟩
      · rw [i2, pk_sub hci] at q
        have h9 : i - c < 9 := Nat.lt_of_not_le fun v => q (show nI 9 ≤ nI (i - c) from nI_le v (by omega))
        refine blX3_digits_32 i1.1.1 (X3_look_C (d := 0) i1 (by omega)) hd (Nat.zero_le _) ?_ (fun _ _ _ q => absurd q id)
        rintro v G' ⟨rfl, rfl⟩
        refine blX3_digits_45 rfl i1.1.1 i1.1.2.1 (blX3_digits_52 ?_)
        rw [nI_1]
        refine ih (i + 1) _ (by omega) (by omega) (by omega) hei' ⟨i1.sI (by decide), ?_, fun _ => ?_, i4.sI (Or.inl rfl), fun k hk => ?_, i6⟩
        · rw [hp_i_sI, if_pos rfl, if_neg (by decide)]; exact i2
        · rw [hp_i_sI, if_pos rfl, if_pos rfl, i3 (by omega), pr_dig_snoc (i - c) c 0 (by omega), lk, if_pos u.1]
        · rw [hp_i_sI, if_pos rfl, if_neg hk]; exact i5 k hk
  exact loop (rz_n z) c _ (by omega) (Nat.le_refl c) hc he hI0
end
