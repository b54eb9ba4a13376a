/-! THE COMPONENT's READER: is, isName, skip, need, fail -/
set_option maxRecDepth 100000
theorem lx_wend_ch {T : Nat → Int32} {n : Nat} : ∀ f c i, n ≤ c + f → c ≤ i → i < lx_wend T n c → i < n ∧ lx_ch (T i) := by
  intro f
  induction f with
  | zero =>
    intro c i hf hci hi
    rw [lx_wend_0 (by omega)] at hi
    omega
  | succ f ih =>
    intro c i hf hci hi
    rcases Decidable.em (c < n ∧ (lx_lt (T c) ∨ lx_dg (T c) ∨ T c = 95)) with h | h
    · rcases Nat.eq_or_lt_of_le hci with e | e
      · subst e; exact h
      · rw [lx_wend_1 h] at hi
        exact ih (c + 1) i (by omega) e hi
    · rw [lx_wend_0 h] at hi
      omega
theorem lx_kind1 {T : Nat → Int32} {n c : Nat} (h : lx_kind T n c = 1) : c < n ∧ lx_end T n c = lx_wend T n c ∧ lx_wend T n c ≤ c + 31 := by
  unfold lx_kind at h
  unfold lx_end
  split at h
  · exact absurd h (by decide)
  · rename_i h1
    split at h
    · rename_i h2
      split at h
      · rename_i h3
        exact ⟨by omega, by rw [if_neg h1, if_pos h2], h3⟩
      · exact absurd h (by decide)
    · split at h
      · split at h <;> exact absurd h (by decide)
      · exact absurd h lx_sign_12.1
theorem lx_l_len {tx : String} : (lx_l tx).length = tx.length := by
  unfold lx_l
  rw [List.length_map, String.length_toList]
theorem lx_l_get {tx : String} {i : Nat} (h : i < tx.length) : (lx_l tx).getD i 0 = lx_chr tx i := by
  have h2 : i < tx.toList.length := by rw [String.length_toList]; exact h
  unfold lx_l lx_chr
  rw [ls_get (by rw [List.length_map]; exact h2), List.getElem_map, ls_get h2]
theorem lx_chr_lt {tx : String} {i : Nat} : lx_chr tx i < 1114112 := by
  unfold lx_chr
  generalize tx.toList.getD i ' ' = c
  have h := c.valid
  have e : c.toNat = c.val.toNat := rfl
  rcases h with u | u
  · omega
  · omega
/-- the word at c is tx -/
theorem wd_is {T : Nat → Int32} {n c : Nat} {tx : String} (hk : lx_kind T n c = 1) (hn : n ≤ 5000) : wd T c (lx_end T n c) = lx_l tx ↔ lx_isW T n c tx := by
  obtain ⟨h1, h2, h3⟩ := lx_kind1 hk
  have hge := lx_wend_ge (T := T) (n := n) n c (by omega) (by omega)
  constructor
  · intro e
    have el : lx_end T n c - c = tx.length := by rw [← wd_len (T := T) (c := c) (e := lx_end T n c), e, lx_l_len]
    refine ⟨hk, by omega, fun i hi => ?_⟩
    have e1 := wd_get (T := T) (c := c) (e := lx_end T n c) (i := i) (by omega)
    rw [e, lx_l_get hi] at e1
    obtain ⟨k, k1, k2⟩ := (lx_wend_ch (T := T) (n := n) n c (c + i) (by omega) (by omega) (by omega)).2.nat
    rw [k2, nI_clamp (by omega)] at e1
    rw [k2, e1]
  · rintro ⟨-, e1, e2⟩
    refine ls_ext ?_ fun u hu => ?_
    · rw [wd_len, lx_l_len]; omega
    · rw [wd_len] at hu
      have hu2 : u < tx.length := by omega
      rw [wd_get hu, lx_l_get hu2, e2 u hu2]
      have hb := lx_chr_lt (tx := tx) (i := u)
      exact nI_clamp (by omega)
section
variable {z : RZ} {d c : Nat} {G : GH}
theorem rat.sign (h : rat z c G) {k : Int32} (hk : k ∈ zg_L) : hp_r G z.2.1 6 = zg z.1 k ↔ lx_kind (rz_T z) (rz_n z) c = k := by
  rw [h.2.2.2.2.1]
  exact ⟨fun e => h.1.2.2.2.2 _ lx_kind_L _ hk e, fun e => by rw [e]⟩
theorem X3_is_C {tx : String} (h : rat z c G) (hw : kw z.1 G) (ht : tx ∈ lx_words) (hd : 2 ≤ d) : wk_C z.1 mX3_is d 0 [vR (some z.2.1), vR (some (hp_sa z.1 tx))] G (fun v G' => v = some (vI (if lx_isW (rz_T z) (rz_n z) c tx then 1 else 0)) ∧ G' = G) (fun _ _ _ => False) := by
  have k1 := h.1.1.1
  refine wk_C_of (by decide) rfl (Nat.le_of_ble_eq_true rfl) ?_
  refine blX3_is_0 k1 (fun q => ?_) (fun q => ?_)
  · have hk : lx_kind (rz_T z) (rz_n z) c ≠ 1 := fun u => q ((h.sign (k := 1) (by decide)).2 u)
    exact blX3_is_25 (blX3_is_26 rfl ⟨by rw [if_neg (fun u => hk u.1)], rfl⟩)
  · have hk := (h.sign (k := 1) (by decide)).1 q
    obtain ⟨a, ha, hst⟩ := h.2.2.2.2.2.1 hk
    have hi := wd_is (tx := tx) hk h.1.2.2.2.1
    refine blX3_is_10 k1 ha hst.1.1 (J13_equals_C (d := 1) hst.1 (hw tx ht) (Nat.le_refl 1)) hd (Nat.zero_le _) ?_ (fun _ _ _ q => absurd q id)
    rintro v G' ⟨rfl, rfl⟩
    refine blX3_is_18 (fun u => ?_) (fun u => ?_)
    · have := lx_b0.1 u
      exact blX3_is_25 (blX3_is_26 rfl ⟨by rw [if_neg (fun v => this (hi.2 v))], rfl⟩)
    · have := lx_b1 u
      exact blX3_is_21 (blX3_is_26 rfl ⟨by rw [if_pos (hi.1 this)], rfl⟩)
theorem kw.fr {G' : GH} (h : kw z.1 G) (hf : rf z G G') : kw z.1 G' := fun tx ht => hf.2.1 _ _ (h tx ht)
theorem X3_isName_C (h : rat z c G) (hw : kw z.1 G) (hd : 5 ≤ d) : wk_C z.1 mX3_isName d 0 [vR (some z.2.1)] G (fun v G' => v = some (vI (if lx_name (rz_T z) (rz_n z) c then 1 else 0)) ∧ rat z c G' ∧ rs z G G') (fun _ _ _ => False) := by
  have k1 := h.1.1.1
  refine wk_C_of (by decide) rfl (Nat.le_of_ble_eq_true rfl) ?_
  refine blX3_isName_0 k1 (fun q => ?_) (fun q => ?_)
  · have hk : lx_kind (rz_T z) (rz_n z) c ≠ 1 := fun u => q ((h.sign (k := 1) (by decide)).2 u)
    exact blX3_isName_24 (blX3_isName_25 rfl ⟨by rw [if_neg (fun u => hk u.1)], h, rs.id0⟩)
  · have hk := (h.sign (k := 1) (by decide)).1 q
    obtain ⟨a, ha, hst⟩ := h.2.2.2.2.2.1 hk
    refine blX3_isName_10 k1 (by rw [ha]; exact X3_reserved_C (d := 4) hst hw (Nat.le_refl 4)) hd (Nat.zero_le _) ?_ (fun _ _ _ q => absurd q id)
    rintro v G' ⟨rfl, hst', hf⟩
    have ka : hp_kd G a = 26 := hst.1.1
    have nR : ¬ z.2.1 = a := fun u => by rw [← u, k1] at ka; cases ka
    have nT : ¬ z.2.2.1 = a := fun u => by rw [← u, h.1.2.2.1.1] at ka; cases ka
    have kR : hp_kd G z.2.1 ≠ 0 := by rw [k1]; decide
    have hR' : rb z G' := h.1.fr hf nR nT
    have hrat : rat z c G' := by
      obtain ⟨a1, a2, a3, a4, a5, a6, a7⟩ := h
      exact ⟨hR', a2, by rw [hf.i kR nR]; exact a3, by rw [hf.i kR nR]; exact a4, by rw [hf.r kR nR]; exact a5, fun _ => ⟨a, by rw [hf.r kR nR]; exact ha, hst'⟩, by rw [hf.i kR nR]; exact a7⟩
    have hrs : rs z G G' := ⟨⟨hf.mono (fun x _ u => Or.inr (by rw [u]; exact ka)), sc_keep hst' hst.1 hf, st_keep hst' hst.1 hf⟩, fun k _ => by rw [hf.r kR nR]⟩
    have hres : lx_words.any (fun tx => decide (wd (rz_T z) c (lx_end (rz_T z) (rz_n z) c) = lx_l tx)) = lx_words.any (fun tx => decide (lx_isW (rz_T z) (rz_n z) c tx)) := by
      congr 1
      funext tx
      exact decide_eq_decide.2 (wd_is hk h.1.2.2.2.1)
    rw [hres]
    refine blX3_isName_17 (fun u => ?_) (fun u => ?_)
    · have := lx_b1 u
      exact blX3_isName_24 (blX3_isName_25 rfl ⟨by rw [if_neg (fun v => v.2 this)], hrat, hrs⟩)
    · have := lx_b0.1 u
      exact blX3_isName_20 (blX3_isName_25 rfl ⟨by rw [if_pos ⟨hk, this⟩], hrat, hrs⟩)
theorem X3_scan_A (h : rat z c G) (hd : 7 ≤ d) : wk_C z.1 mX3_scan d 10 [vR (some z.2.1)] G (fun v G' => v = none ∧ rat z (lx_next (rz_T z) (rz_n z) c) G' ∧ rs z G G') (fun _ _ _ => False) :=
  X3_scan_C h.1 h.2.2.2.1 (lx_end_le h.2.1).2 hd
theorem X3_skip_C {k : Int32} (h : rat z c G) (hk : k ∈ zg_L) (hd : 8 ≤ d) : wk_C z.1 mX3_skip d 10 [vR (some z.2.1), vR (zg z.1 k)] G (fun v G' => (lx_kind (rz_T z) (rz_n z) c = k ∧ v = some (vI 1) ∧ rat z (lx_next (rz_T z) (rz_n z) c) G' ∧ rs z G G') ∨ (lx_kind (rz_T z) (rz_n z) c ≠ k ∧ v = some (vI 0) ∧ G' = G)) (fun _ _ _ => False) := by
  have k1 := h.1.1.1
  refine wk_C_of (by decide) rfl (by cases zg z.1 k <;> exact Nat.le_of_ble_eq_true rfl) ?_
  refine blX3_skip_0 k1 (fun q => ?_) (fun q => ?_)
  · refine blX3_skip_10 k1 (X3_scan_A (d := 7) h (Nat.le_refl 7)) hd (Nat.le_refl _) ?_ (fun _ _ _ q => absurd q id)
    rintro v G' ⟨rfl, h1, h2⟩
    exact blX3_skip_14 (Or.inl ⟨(h.sign hk).1 q, rfl, h1, h2⟩)
  · exact blX3_skip_8 (Or.inr ⟨fun u => q ((h.sign hk).2 u), rfl, rfl⟩)
theorem X3_skip_2_C {tx : String} (h : rat z c G) (hw : kw z.1 G) (ht : tx ∈ lx_words) (hd : 8 ≤ d) : wk_C z.1 mX3_skip_2 d 10 [vR (some z.2.1), vR (some (hp_sa z.1 tx))] G (fun v G' => (lx_isW (rz_T z) (rz_n z) c tx ∧ v = some (vI 1) ∧ rat z (lx_next (rz_T z) (rz_n z) c) G' ∧ rs z G G') ∨ (¬ lx_isW (rz_T z) (rz_n z) c tx ∧ v = some (vI 0) ∧ G' = G)) (fun _ _ _ => False) := by
  have k1 := h.1.1.1
  refine wk_C_of (by decide) rfl (Nat.le_of_ble_eq_true rfl) ?_
  refine blX3_skip_2_0 k1 (X3_is_C (d := 2) h hw ht (Nat.le_refl 2)) (by show 2 + 1 ≤ d; omega) (Nat.zero_le _) ?_ (fun _ _ _ q => absurd q id)
  rintro v G' ⟨rfl, rfl⟩
  refine blX3_skip_2_5 (fun q => ?_) (fun q => ?_)
  · refine blX3_skip_2_10 k1 (X3_scan_A (d := 7) h (Nat.le_refl 7)) hd (Nat.le_refl _) ?_ (fun _ _ _ q => absurd q id)
    rintro v G2 ⟨rfl, h1, h2⟩
    exact blX3_skip_2_14 (Or.inl ⟨lx_b1 q, rfl, h1, h2⟩)
  · exact blX3_skip_2_8 (Or.inr ⟨lx_b0.1 q, rfl, rfl⟩)
/-- only own cells, the reader's later fields, the Wrong, and hashes of Strings, have changed -/
def rx (z : RZ) (own : Nat → Prop) (G G' : GH) : Prop := cf (fun a => own a ∨ a = z.2.1 ∨ a = z.2.2.2.1 ∨ hp_kd G a = 26) G G' ∧ (∀ a l, hp_sc G a l → hp_sc G' a l) ∧ ∀ a l, st z.1 G a l → st z.1 G' a l
def no9 : Nat → Prop := fun _ => False
theorem rf.toX {G' : GH} (own : Nat → Prop) (h : rf z G G') : rx z own G G' := ⟨h.1.mono (fun _ _ u => Or.inr (u.imp id Or.inr)), h.2⟩
theorem rx.tr {own own2 : Nat → Prop} {G1 G2 : GH} (h : rx z own G G1) (h2 : rx z own2 G1 G2) (hs : ∀ a, hp_kd G a ≠ 0 → own2 a → own a) : rx z own G G2 :=
  ⟨h.1.tr2 h2.1 (fun a ha u => u.imp (hs a ha) (fun u => u.imp id (fun u => u.imp id (fun v => by rw [← h.1.kd ha]; exact v)))), fun a l u => h2.2.1 a l (h.2.1 a l u), fun a l u => h2.2.2 a l (h.2.2 a l u)⟩
theorem rx.mono {own own2 : Nat → Prop} {G1 : GH} (h : rx z own G G1) (hs : ∀ a, hp_kd G a ≠ 0 → own a → own2 a) : rx z own2 G G1 := ⟨h.1.mono (fun a ha u => u.imp (hs a ha) id), h.2⟩
theorem rx.id0 {own : Nat → Prop} : rx z own G G := ⟨cf.rf, fun _ _ u => u, fun _ _ u => u⟩
/-- writes at own cells that are neither Strings nor their bytes -/
theorem rx_of {own : Nat → Prop} {G' : GH} (h : cf own G G') (hk : ∀ a, own a → hp_kd G a ≠ 26 ∧ hp_kd G a ≠ 30) : rx z own G G' := by
  have hs : ∀ a l, hp_sc G a l → hp_sc G' a l := fun a l u => by
    have ka : hp_kd G a = 26 := u.1
    have na : ¬ own a := fun e => (hk a e).1 ka
    refine hp_str.fr u h ⟨h.r (by rw [ka]; decide) na, by rw [h.i (by rw [ka]; decide) na]⟩ (fun o ho e => ?_)
    obtain ⟨-, -, -, -, p, p1, p2, -⟩ := u
    rw [ho] at p1
    cases p1
    exact (hk o e).2 p2
  refine ⟨h.mono (fun _ _ u => Or.inl u), hs, fun a l u => ⟨hs a l u.1, u.2.1, ?_⟩⟩
  have ka : hp_kd G a = 26 := u.1.1
  have na : ¬ own a := fun e => (hk a e).1 ka
  unfold hv
  rw [h.i (by rw [ka]; decide) na]
  exact u.2.2
/-- the Wrong of the kind k at the place c is thrown -/
def rkk (z : RZ) (G G' : GH) : Prop := ∀ k, (8 ≤ k ∧ k ≠ 10) ∨ k < 2 → hp_r G' z.2.1 k = hp_r G z.2.1 k
def er (z : RZ) (own : Nat → Prop) (G : GH) (k : Int32) (c : Nat) (E : String) (q : Nat) (G' : GH) : Prop := E = "StreamNodes$Wrong" ∧ q = z.2.2.2.1 ∧ hp_i G' q 6 = k ∧ hp_i G' q 7 = nI c ∧ rx z own G G' ∧ rkk z G G'
theorem er.of {own own2 : Nat → Prop} {G1 G' : GH} {k : Int32} {c : Nat} {E : String} {q : Nat} (h : er z own2 G1 k c E q G') (h1 : rx z own G G1) (hr : rkk z G G1) (hs : ∀ a, hp_kd G a ≠ 0 → own2 a → own a) : er z own G k c E q G' :=
  ⟨h.1, h.2.1, h.2.2.1, h.2.2.2.1, h1.tr h.2.2.2.2.1 hs, fun k hk => (h.2.2.2.2.2 k hk).trans (hr k hk)⟩
theorem X3_fail_C {k : Int32} {p : Nat} (h : rb z G) : wk_C z.1 mX3_fail d 0 [vR (some z.2.1), vI k, vI (nI p)] G (fun v G' => v = some (vR (some z.2.2.2.1)) ∧ er z no9 G k p "StreamNodes$Wrong" z.2.2.2.1 G' ∧ hp_kd G' z.2.2.2.1 = 3) (fun _ _ _ => False) := by
  have hne := h.ne
  obtain ⟨⟨k1, k2, k3, k4, k5⟩, ⟨q1, q2⟩, ⟨t1, -⟩, -⟩ := h
  refine wk_C_of (by decide) rfl (Nat.le_of_ble_eq_true rfl) ?_
  have hf : cf (fun x => x = z.2.2.2.1) G (hp_sI (hp_sI G z.2.2.2.1 6 k) z.2.2.2.1 7 (nI p)) := ((cf.rf (own := fun x => x = z.2.2.2.1)).sI (Or.inl rfl)).sI (Or.inl rfl)
  have hx := rx_of (z := z) hf (fun a e => by rw [e, q1]; exact ⟨by decide, by decide⟩)
  refine blX3_fail_0 k1 k3 q1 q2 (blX3_fail_16 k1 ⟨by rw [hp_r_sI, hp_r_sI, k3], ⟨rfl, rfl, ?_, ?_, ?_, fun _ _ => rfl⟩, q1⟩)
  · rw [hp_i_sI, if_pos rfl, if_neg (by decide), hp_i_sI, if_pos rfl, if_pos rfl]
  · rw [hp_i_sI, if_pos rfl, if_pos rfl]
  · exact ⟨hx.1.mono (fun a _ u => Or.inr (u.elim (fun v => Or.inr (Or.inl v)) id)), hx.2⟩
theorem X3_misfit_C (h : rat z c G) (hd : 1 ≤ d) : wk_C z.1 mX3_misfit d 0 [vR (some z.2.1)] G (fun v G' => v = some (vR (some z.2.2.2.1)) ∧ er z no9 G 1 c "StreamNodes$Wrong" z.2.2.2.1 G' ∧ hp_kd G' z.2.2.2.1 = 3) (fun _ _ _ => False) := by
  refine wk_C_of (by decide) rfl (Nat.le_of_ble_eq_true rfl) ?_
  refine blX3_misfit_0 h.1.1.1 (by rw [h.2.2.1]; exact X3_fail_C (d := 0) h.1) hd (Nat.zero_le _) ?_ (fun _ _ _ q => absurd q id)
  rintro v G' ⟨rfl, h1, h2⟩
  exact blX3_misfit_9 ⟨rfl, h1, h2⟩
theorem X3_need_C {k : Int32} (h : rat z c G) (hk : k ∈ zg_L) (hd : 9 ≤ d) : wk_C z.1 mX3_need d 10 [vR (some z.2.1), vR (zg z.1 k)] G (fun v G' => v = none ∧ lx_kind (rz_T z) (rz_n z) c = k ∧ rat z (lx_next (rz_T z) (rz_n z) c) G' ∧ rs z G G') (fun E q G' => lx_kind (rz_T z) (rz_n z) c ≠ k ∧ er z no9 G 1 c E q G') := by
  have k1 := h.1.1.1
  refine wk_C_of (by decide) rfl (by cases zg z.1 k <;> exact Nat.le_of_ble_eq_true rfl) ?_
  refine blX3_need_0 k1 (X3_skip_C (d := 8) h hk (Nat.le_refl 8)) hd (Nat.le_refl _) ?_ (fun _ _ _ q => absurd q id)
  rintro v G' (⟨h1, rfl, h2, h3⟩ | ⟨h1, rfl, rfl⟩)
  · exact blX3_need_5 (fun _ => blX3_need_13 ⟨rfl, h1, h2, h3⟩) (fun q => absurd q (by decide))
  · refine blX3_need_5 (fun q => absurd rfl q) (fun _ => ?_)
    refine blX3_need_8 k1 (X3_misfit_C (d := 1) h (Nat.le_refl 1)) (by show 1 + 1 ≤ d; omega) (Nat.zero_le _) ?_ (fun _ _ _ q => absurd q id)
    rintro v G2 ⟨rfl, h4, h5⟩
    refine blX3_need_12 rfl (by rw [h5]; decide) (by rw [h5]; decide) (wk_out0 rfl ⟨h1, ?_⟩)
    rw [h5]
    exact h4
theorem X3_need_2_C {tx : String} (h : rat z c G) (hw : kw z.1 G) (ht : tx ∈ lx_words) (hd : 9 ≤ d) : wk_C z.1 mX3_need_2 d 10 [vR (some z.2.1), vR (some (hp_sa z.1 tx))] G (fun v G' => v = none ∧ lx_isW (rz_T z) (rz_n z) c tx ∧ rat z (lx_next (rz_T z) (rz_n z) c) G' ∧ rs z G G') (fun E q G' => ¬ lx_isW (rz_T z) (rz_n z) c tx ∧ er z no9 G 1 c E q G') := by
  have k1 := h.1.1.1
  refine wk_C_of (by decide) rfl (Nat.le_of_ble_eq_true rfl) ?_
  refine blX3_need_2_0 k1 (X3_skip_2_C (d := 8) h hw ht (Nat.le_refl 8)) hd (Nat.le_refl _) ?_ (fun _ _ _ q => absurd q id)
  rintro v G' (⟨h1, rfl, h2, h3⟩ | ⟨h1, rfl, rfl⟩)
  · exact blX3_need_2_5 (fun _ => blX3_need_2_13 ⟨rfl, h1, h2, h3⟩) (fun q => absurd q (by decide))
  · refine blX3_need_2_5 (fun q => absurd rfl q) (fun _ => ?_)
    refine blX3_need_2_8 k1 (X3_misfit_C (d := 1) h (Nat.le_refl 1)) (by show 1 + 1 ≤ d; omega) (Nat.zero_le _) ?_ (fun _ _ _ q => absurd q id)
    rintro v G2 ⟨rfl, h4, h5⟩
    refine blX3_need_2_12 rfl (by rw [h5]; decide) (by rw [h5]; decide) (wk_out0 rfl ⟨h1, ?_⟩)
    rw [h5]
    exact h4
end
