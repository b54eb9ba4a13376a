/-! THE REFERENCE'S LAYER: its one object and its arrays as a value; written by tools/gen_ml.py -/
set_option maxRecDepth 100000
/-- the reference's state: its fields that are ints or booleans by number, its arrays' elements by the field's number -/
abbrev MS : Type := (Nat → Int32) × (Nat → Nat → Int32)
def ml_sf (σ : MS) (k : Nat) (v : Int32) : MS := (hp_u1 σ.1 k v, σ.2)
def ml_sa (σ : MS) (k j : Nat) (v : Int32) : MS := (σ.1, hp_up σ.2 k j v)
def ml_saA (σ : MS) (k : Nat) (f : Nat → Int32) : MS := (σ.1, hp_u1 σ.2 k f)
theorem ml_sf_f {σ : MS} {k : Nat} {v : Int32} {n : Nat} : (ml_sf σ k v).1 n = if n = k then v else σ.1 n := rfl
theorem ml_sf_a {σ : MS} {k : Nat} {v : Int32} {n j : Nat} : (ml_sf σ k v).2 n j = σ.2 n j := rfl
theorem ml_sa_f {σ : MS} {k j : Nat} {v : Int32} {n : Nat} : (ml_sa σ k j v).1 n = σ.1 n := rfl
theorem ml_sa_a {σ : MS} {k j : Nat} {v : Int32} {n i : Nat} : (ml_sa σ k j v).2 n i = if n = k then (if i = j then v else σ.2 n i) else σ.2 n i := rfl
theorem ml_saA_f {σ : MS} {k : Nat} {f : Nat → Int32} {n : Nat} : (ml_saA σ k f).1 n = σ.1 n := rfl
theorem ml_saA_a {σ : MS} {k : Nat} {f : Nat → Int32} {n i : Nat} : (ml_saA σ k f).2 n i = if n = k then f i else σ.2 n i := by
  show (if n = k then f else σ.2 n) i = _
  split <;> rfl
/-- the kind of the array of a field; 0: no array -/
def ml_ar : Nat → Nat := fun k => match k with
  | 0 => 30
  | 10 => 28
  | 11 => 28
  | 12 => 28
  | 13 => 28
  | 14 => 28
  | 15 => 28
  | 16 => 28
  | 17 => 28
  | 20 => 28
  | 21 => 28
  | 22 => 28
  | 23 => 28
  | 24 => 29
  | 25 => 28
  | 26 => 28
  | 27 => 28
  | 28 => 28
  | 29 => 28
  | 32 => 28
  | 33 => 28
  | 34 => 28
  | 35 => 28
  | 36 => 28
  | 37 => 28
  | 38 => 28
  | 39 => 28
  | 41 => 29
  | 43 => 28
  | 44 => 28
  | 45 => 28
  | 46 => 28
  | 47 => 28
  | 48 => 28
  | 56 => 28
  | 57 => 28
  | 58 => 28
  | 59 => 28
  | 60 => 28
  | 61 => 28
  | 62 => 28
  | 63 => 28
  | 64 => 28
  | 65 => 28
  | 66 => 28
  | 68 => 29
  | 69 => 28
  | 70 => 28
  | 71 => 29
  | 73 => 28
  | 74 => 28
  | 75 => 28
  | 76 => 28
  | 77 => 28
  | 78 => 29
  | 79 => 28
  | 80 => 28
  | 81 => 29
  | _ => 0
def ml_len : Nat → Nat := fun k => match k with
  | 0 => 65536
  | 10 => 60
  | 11 => 60
  | 12 => 61
  | 13 => 60
  | 14 => 60
  | 15 => 61
  | 16 => 60
  | 17 => 60
  | 20 => 6000
  | 21 => 6000
  | 22 => 6000
  | 23 => 6000
  | 24 => 6000
  | 25 => 17000
  | 26 => 17001
  | 27 => 17000
  | 28 => 66000
  | 29 => 17000
  | 32 => 66000
  | 33 => 66000
  | 34 => 66000
  | 35 => 66000
  | 36 => 66000
  | 37 => 66000
  | 38 => 66000
  | 39 => 66000
  | 41 => 66000
  | 43 => 66000
  | 44 => 66000
  | 45 => 66000
  | 46 => 6000
  | 47 => 6000
  | 48 => 60
  | 56 => 3200
  | 57 => 3200
  | 58 => 3200
  | 59 => 3200
  | 60 => 3200
  | 61 => 3200
  | 62 => 3200
  | 63 => 6100
  | 64 => 6100
  | 65 => 6101
  | 66 => 60000
  | 68 => 6100
  | 69 => 6100
  | 70 => 6100
  | 71 => 6100
  | 73 => 100
  | 74 => 6100
  | 75 => 6600
  | 76 => 6600
  | 77 => 66000
  | 78 => 6100
  | 79 => 6600
  | 80 => 6100
  | 81 => 6100
  | _ => 0
/-- the world: constants, the object, its arrays' addresses, the ghost heap at the start -/
abbrev MZ : Type := WD × Nat × (Nat → Nat) × GH
def ml_own (z : MZ) (a : Nat) : Prop := a = z.2.1 ∨ ∃ k, ml_ar k ≠ 0 ∧ a = z.2.2.1 k
/-- what was known outside 'own' stands -/
def hp_fr (own : Nat → Prop) (G G' : GH) : Prop := ∀ a, hp_kd G a ≠ 0 → ¬ own a → hp_kd G' a = hp_kd G a ∧ hp_ln G' a = hp_ln G a ∧ hp_i G' a = hp_i G a ∧ hp_r G' a = hp_r G a ∧ hp_l G' a = hp_l G a
theorem hp_fr.refl {own : Nat → Prop} {G : GH} : hp_fr own G G := fun _ _ _ => ⟨rfl, rfl, rfl, rfl, rfl⟩
theorem hp_fr.trans {own : Nat → Prop} {G G1 G2 : GH} (h : hp_fr own G G1) (h2 : hp_fr own G1 G2) : hp_fr own G G2 := fun a ha ho => by
  obtain ⟨e1, e2, e3, e4, e5⟩ := h a ha ho
  obtain ⟨f1, f2, f3, f4, f5⟩ := h2 a (by rw [e1]; exact ha) ho
  exact ⟨f1.trans e1, f2.trans e2, f3.trans e3, f4.trans e4, f5.trans e5⟩
/-- a write at an own place, or at one that wasn't known -/
theorem hp_fr.step {own : Nat → Prop} {G0 G G' : GH} {a : Nat} (h : hp_fr own G0 G) (ha : own a ∨ hp_kd G a = 0) (hk : ∀ b : Nat, b ≠ a → hp_kd G' b = hp_kd G b ∧ hp_ln G' b = hp_ln G b ∧ hp_i G' b = hp_i G b ∧ hp_r G' b = hp_r G b ∧ hp_l G' b = hp_l G b) : hp_fr own G0 G' := fun b hb ho => by
  obtain ⟨e1, e2, e3, e4, e5⟩ := h b hb ho
  have hne : b ≠ a := fun e => by
    subst e
    rcases ha with q | q
    · exact ho q
    · rw [q] at e1; exact hb e1.symm
  obtain ⟨f1, f2, f3, f4, f5⟩ := hk b hne
  exact ⟨f1.trans e1, f2.trans e2, f3.trans e3, f4.trans e4, f5.trans e5⟩
theorem hp_fr.step2 {own : Nat → Prop} {G0 G G' : GH} {a : Nat} (h : hp_fr own G0 G) (ha : hp_kd G0 a = 0) (hk : ∀ b : Nat, b ≠ a → hp_kd G' b = hp_kd G b ∧ hp_ln G' b = hp_ln G b ∧ hp_i G' b = hp_i G b ∧ hp_r G' b = hp_r G b ∧ hp_l G' b = hp_l G b) : hp_fr own G0 G' := fun b hb ho => by
  obtain ⟨e1, e2, e3, e4, e5⟩ := h b hb ho
  have hne : b ≠ a := fun e => by rw [e] at hb; exact hb ha
  obtain ⟨f1, f2, f3, f4, f5⟩ := hk b hne
  exact ⟨f1.trans e1, f2.trans e2, f3.trans e3, f4.trans e4, f5.trans e5⟩
/-- the object and its arrays hold σ -/
def ml_W (z : MZ) (σ : MS) (G : GH) : Prop := (hp_kd G z.2.1 = 1 ∧ hp_A z.1 z.2.1) ∧ (∀ k, ml_ar k ≠ 0 → hp_r G z.2.1 k = some (z.2.2.1 k) ∧ hp_kd G (z.2.2.1 k) = ml_ar k ∧ hp_ln G (z.2.2.1 k) = ml_len k ∧ hp_A z.1 (z.2.2.1 k)) ∧
  (∀ k k', ml_ar k ≠ 0 → ml_ar k' ≠ 0 → z.2.2.1 k = z.2.2.1 k' → k = k') ∧ (∀ k, hp_i G z.2.1 k = σ.1 k) ∧ (∀ k, ml_ar k ≠ 0 → hp_i G (z.2.2.1 k) = σ.2 k)
theorem ml_ar28 : ∀ k, ml_ar k ≠ 0 → 28 ≤ ml_ar k ∧ ml_ar k < 31 := by
  intro k h
  unfold ml_ar at h ⊢
  split at h <;> first | exact ⟨by decide, by decide⟩ | exact absurd rfl h
theorem ml_W.ne {z : MZ} {σ : MS} {G : GH} (h : ml_W z σ G) {k : Nat} (hk : ml_ar k ≠ 0) : z.2.2.1 k ≠ z.2.1 := fun e => by
  have h1 := (h.2.1 k hk).2.1
  rw [e, h.1.1] at h1
  have := ml_ar28 k hk
  omega
/-- what a method of the reference owes: depth, budget, its end, its Wrong (kind, place) -/
abbrev MJ : Type := Nat × Nat × (Option WV → MS → GH → Prop) × (Int32 → Int32 → MS → Prop)
/-- nothing was made since the start -/
def ml_cl (z : MZ) (G : GH) : Prop := hp_cs G = hp_cs z.2.2.2 ∧ hp_ss G = hp_ss z.2.2.2
def ml_FC (z : MZ) (G : GH) : Prop := hp_fr (ml_own z) z.2.2.2 G ∧ ml_cl z G
/-- r of the budget b is left; all of it: nothing was made -/
def ml_F (z : MZ) (b r : Nat) (G : GH) : Prop := hp_fr (ml_own z) z.2.2.2 G ∧ r ≤ b ∧ (r = b → ml_cl z G)
def ml_P (z : MZ) (P : Option WV → MS → GH → Prop) : Option WV → GH → Prop := fun v G' => ∃ σ', ml_W z σ' G' ∧ ml_FC z G' ∧ P v σ' G'
/-- the same of a method that leaves a Wrong that it made -/
def ml_PD (z : MZ) (P : Option WV → MS → GH → Prop) : Option WV → GH → Prop := fun v G' => ∃ σ', ml_W z σ' G' ∧ hp_fr (ml_own z) z.2.2.2 G' ∧ P v σ' G'
def ml_X (z : MZ) (PX : Int32 → Int32 → MS → Prop) : String → Nat → GH → Prop := fun E q G' => E = "StreamNodesModel$Wrong" ∧ hp_kd G' q = 4 ∧ ∃ σ', ml_W z σ' G' ∧ hp_fr (ml_own z) z.2.2.2 G' ∧ PX (hp_i G' q 6) (hp_i G' q 7) σ'
def ml_j (z : MZ) (jm : MJ) : JB := (jm.1, jm.2.1, ml_P z jm.2.2.1, ml_X z jm.2.2.2, hp_cs z.2.2.2, hp_ss z.2.2.2)
def ml_V (z : MZ) (M : MI) (jm : MJ) (pc : Nat) (lv : List (Nat × WV)) (st : List WV) (σ : MS) (E : GH → Prop) (r : Nat) : Prop :=
  ∀ G, ml_W z σ G → ml_F z jm.2.1 r G → E G → wk_V z.1 M (ml_j z jm) pc lv st G r
def ml_C (z : MZ) (M : MI) (d b : Nat) (As : List WV) (σ : MS) (P : Option WV → MS → GH → Prop) (PX : Int32 → Int32 → MS → Prop) : Prop :=
  ∀ G, ml_W z σ G → ml_FC z G → wk_C z.1 M d b As G (ml_P z P) (ml_X z PX)
def ml_D (z : MZ) (M : MI) (d b : Nat) (As : List WV) (σ : MS) (P : Option WV → MS → GH → Prop) (PX : Int32 → Int32 → MS → Prop) : Prop :=
  ∀ G, ml_W z σ G → ml_FC z G → wk_C z.1 M d b As G (ml_PD z P) (ml_X z PX)
theorem ml_F.fc {z : MZ} {b r : Nat} {G : GH} (h : ml_F z b r G) (hr : r = b) : ml_FC z G := ⟨h.1, h.2.2 hr⟩
theorem ml_FC.F {z : MZ} {b : Nat} {G : GH} (h : ml_FC z G) : ml_F z b b G := ⟨h.1, Nat.le_refl b, fun _ => h.2⟩
theorem ml_F.sI {z : MZ} {b r : Nat} {G : GH} {a k : Nat} {v : Int32} (h : ml_F z b r G) (ha : ml_own z a) : ml_F z b r (hp_sI G a k v) := ⟨h.1.step (Or.inl ha) hp_sI_ne, h.2.1, fun e => h.2.2 e⟩
theorem ml_F.setI {z : MZ} {b r : Nat} {G : GH} {a : Nat} {f : Nat → Int32} (h : ml_F z b r G) (ha : ml_own z a) : ml_F z b r (hp_setI G a f) := ⟨h.1.step (Or.inl ha) hp_setI_ne, h.2.1, fun e => h.2.2 e⟩
theorem ml_FC.sI {z : MZ} {G : GH} {a k : Nat} {v : Int32} (h : ml_FC z G) (ha : ml_own z a) : ml_FC z (hp_sI G a k v) := ⟨h.1.step (Or.inl ha) hp_sI_ne, h.2⟩
theorem ml_F.new {z : MZ} {b r : Nat} {G : GH} {q c n : Nat} (h : ml_F z b r G) (hr : 1 ≤ r) (hq : hp_kd G q = 0) : ml_F z b (r - 1) (hp_nw G q c n) := ⟨h.1.step (Or.inr hq) hp_nw_ne, by have := h.2.1; omega, fun e => by have := h.2.1; omega⟩
theorem ml_F.init {z : MZ} {b r b' : Nat} {G G' : GH} {a : Nat} (h : ml_F z b r G) (ha : hp_kd z.2.2.2 a = 0) (hk : ∀ b : Nat, b ≠ a → hp_kd G' b = hp_kd G b ∧ hp_ln G' b = hp_ln G b ∧ hp_i G' b = hp_i G b ∧ hp_r G' b = hp_r G b ∧ hp_l G' b = hp_l G b) (hlt : r < b) : ml_F z b (r - b') G' := ⟨h.1.step2 ha hk, by omega, fun e => by omega⟩
theorem ml_C_of {z : MZ} {M : MI} {d b : Nat} {As : List WV} {σ : MS} {P : Option WV → MS → GH → Prop} {PX : Int32 → Int32 → MS → Prop} (hy : plainName M.1.cls = true) (hh : M.2.2.2.2 = []) (hn : (lg_sl (As.map wk_v)).length ≤ M.2.2.1)
    (k : ml_V z M (d, b, P, PX) 0 (wk_args 0 As) [] σ (fun _ => True) b) : ml_C z M d b As σ P PX := fun G h1 h2 => wk_C_of hy hh hn (by rw [h2.2.1, h2.2.2]; exact k G h1 h2.F trivial)
theorem wk_C.mono {w : WD} {M : MI} {d b : Nat} {As : List WV} {G : GH} {P P' : Option WV → GH → Prop} {PX PX' : String → Nat → GH → Prop} (h : wk_C w M d b As G P PX) (hP : ∀ v G', P v G' → P' v G') (hX : ∀ E q G', PX E q G' → PX' E q G') : wk_C w M d b As G P' PX' := by
  intro l hl
  refine MetFree.mono (h l hl) (fun _ _ h => h) (fun _ _ _ _ _ h => h) ?_
  rintro a st o t - (⟨⟨v, G', e, h1, h2, h3⟩, hL⟩ | ⟨q, e, E, ce, L, ⟨G', h1, h2, h3⟩, h4⟩)
  · exact Or.inl ⟨⟨v, G', e, hP _ _ h1, h2, h3⟩, hL⟩
  · exact Or.inr ⟨q, e, E, ce, L, ⟨G', hX _ _ _ h1, h2, h3⟩, h4⟩
/-- a contract that leaves the heap as it is -/
theorem ml_C_pure {z : MZ} {M : MI} {d b : Nat} {As : List WV} {σ : MS} {P : Option WV → MS → GH → Prop} {PX : Int32 → Int32 → MS → Prop} {P0 : Option WV → Prop} (h : ∀ G, wk_C z.1 M d b As G (fun v G' => P0 v ∧ G' = G) (fun _ _ _ => False)) (hP : ∀ v G, P0 v → P v σ G) : ml_C z M d b As σ P PX := by
  intro G h1 h2
  refine (h G).mono ?_ ?_
  · rintro v G' ⟨hv, rfl⟩
    exact ⟨σ, h1, h2, hP v _ hv⟩
  · intro E q G' hF
    exact absurd hF id
section
variable {z : MZ} {M : MI} {jm : MJ} {pc r : Nat} {lv : List (Nat × WV)} {st st0 : List WV} {σ : MS} {G : GH}
theorem ml_less {E : GH → Prop} {r' : Nat} (h : r' ≤ r) (k : ml_V z M jm pc lv st σ E r') : ml_V z M jm pc lv st σ E r := fun G h1 h2 h3 => wk_less h (k G h1 ⟨h2.1, Nat.le_trans h h2.2.1, fun e => h2.2.2 (by have := h2.2.1; omega)⟩ h3)
theorem ml_sub {E : GH → Prop} (lv' : List (Nat × WV)) (hs : wk_sb lv lv') (k : ml_V z M jm pc lv' st σ E r) : ml_V z M jm pc lv st σ E r := fun G h1 h2 h3 => wk_sub lv' hs (k G h1 h2 h3)
theorem ml_E {E E' : GH → Prop} (h : ∀ G, E G → E' G) (k : ml_V z M jm pc lv st σ E' r) : ml_V z M jm pc lv st σ E r := fun G h1 h2 h3 => k G h1 h2 (h G h3)
theorem ml_getI (k : Nat) {idx : Nat} (h1 : ml_W z σ G) (hF : hp_FL M.1.cls idx 1 k) (hty : hp_isI (hp_ty 1 k) = true) (hd : decode M.2.1 pc = .ok (.getfield idx, 3)) (kk : wk_V z.1 M (ml_j z jm) (pc + 3) lv (vI (σ.1 k) :: st) G r) : wk_V z.1 M (ml_j z jm) pc lv (vR (some z.2.1) :: st) G r :=
  wk_getI 1 k hF hty h1.1.1 hd (by rw [h1.2.2.2.1 k]; exact kk)
theorem ml_getA (k : Nat) {idx : Nat} (h1 : ml_W z σ G) (hF : hp_FL M.1.cls idx 1 k) (hty : hp_isR (hp_ty 1 k) = true) (ha : ml_ar k ≠ 0) (hd : decode M.2.1 pc = .ok (.getfield idx, 3)) (kk : wk_V z.1 M (ml_j z jm) (pc + 3) lv (vR (some (z.2.2.1 k)) :: st) G r) : wk_V z.1 M (ml_j z jm) pc lv (vR (some z.2.1) :: st) G r :=
  wk_getR 1 k hF hty h1.1.1 hd (by rw [(h1.2.1 k ha).1]; exact kk)
theorem ml_W.sf {k : Nat} {v : Int32} (h : ml_W z σ G) (hk : ml_ar k = 0) : ml_W z (ml_sf σ k v) (hp_sI G z.2.1 k v) := by
  obtain ⟨⟨a1, a2⟩, b, c, d, e⟩ := h
  have h0 : ml_W z σ G := ⟨⟨a1, a2⟩, b, c, d, e⟩
  refine ⟨⟨a1, a2⟩, b, c, fun n => ?_, fun n hn => ?_⟩
  · rw [hp_i_sI, if_pos rfl, ml_sf_f, d n]
  · funext j
    rw [hp_i_sI, if_neg (h0.ne hn), e n hn]
    rfl
theorem ml_W.sa {k j : Nat} {v : Int32} (h : ml_W z σ G) (hk : ml_ar k ≠ 0) : ml_W z (ml_sa σ k j v) (hp_sI G (z.2.2.1 k) j v) := by
  obtain ⟨⟨a1, a2⟩, b, c, d, e⟩ := h
  have h0 : ml_W z σ G := ⟨⟨a1, a2⟩, b, c, d, e⟩
  refine ⟨⟨a1, a2⟩, b, c, fun n => ?_, fun n hn => ?_⟩
  · rw [hp_i_sI, if_neg (Ne.symm (h0.ne hk)), d n]
    rfl
  · funext i
    rw [hp_i_sI, ml_sa_a, e n hn]
    by_cases hnk : n = k
    · subst hnk; rw [if_pos rfl, if_pos rfl]
    · rw [if_neg (fun q => hnk (c n k hn hk q)), if_neg hnk]
theorem ml_W.saA {k : Nat} {f : Nat → Int32} (h : ml_W z σ G) (hk : ml_ar k ≠ 0) : ml_W z (ml_saA σ k f) (hp_setI G (z.2.2.1 k) f) := by
  obtain ⟨⟨a1, a2⟩, b, c, d, e⟩ := h
  have h0 : ml_W z σ G := ⟨⟨a1, a2⟩, b, c, d, e⟩
  refine ⟨⟨a1, a2⟩, b, c, fun n => ?_, fun n hn => ?_⟩
  · rw [hp_i_setI, if_neg (Ne.symm (h0.ne hk)), d n]
    rfl
  · funext i
    rw [hp_i_setI, ml_saA_a, e n hn]
    by_cases hnk : n = k
    · subst hnk; rw [if_pos rfl, if_pos rfl]
    · rw [if_neg (fun q => hnk (c n k hn hk q)), if_neg hnk]
/-- a cell that wasn't known doesn't touch the reference -/
theorem ml_W.other {G' : GH} {a : Nat} (h : ml_W z σ G) (ha : ¬ ml_own z a) (hk : ∀ b : Nat, b ≠ a → hp_kd G' b = hp_kd G b ∧ hp_ln G' b = hp_ln G b ∧ hp_i G' b = hp_i G b ∧ hp_r G' b = hp_r G b ∧ hp_l G' b = hp_l G b) : ml_W z σ G' := by
  obtain ⟨⟨a1, a2⟩, b, c, d, e⟩ := h
  have hm : z.2.1 ≠ a := fun q => ha (Or.inl q.symm)
  have ha' : ∀ k, ml_ar k ≠ 0 → z.2.2.1 k ≠ a := fun k hk q => ha (Or.inr ⟨k, hk, q.symm⟩)
  refine ⟨⟨by rw [(hk _ hm).1]; exact a1, a2⟩, fun k hk' => ?_, c, fun n => ?_, fun n hn => ?_⟩
  · obtain ⟨e1, e2, e3, e4⟩ := b k hk'
    exact ⟨by rw [(hk _ hm).2.2.2.1]; exact e1, by rw [(hk _ (ha' k hk')).1]; exact e2, by rw [(hk _ (ha' k hk')).2.1]; exact e3, e4⟩
  · rw [(hk _ hm).2.2.1]; exact d n
  · rw [(hk _ (ha' n hn)).2.2.1]; exact e n hn
theorem ml_W.fresh (h : ml_W z σ G) {a : Nat} (ha : hp_kd G a = 0) : ¬ ml_own z a := by
  rintro (rfl | ⟨k, hk, rfl⟩)
  · rw [h.1.1] at ha; cases ha
  · rw [(h.2.1 k hk).2.1] at ha; exact hk ha
theorem ml_putI (k : Nat) {idx : Nat} {v : Int32} (h1 : ml_W z σ G) (h2 : ml_F z jm.2.1 r G) (hF : hp_FL M.1.cls idx 1 k) (hty : hp_isI (hp_ty 1 k) = true) (hfin : (hp_T 1 k).2.2.2 = false ∨ (M.1.name = "<init>" ∧ (hp_T 1 k).1 = M.1.cls)) (hok : hp_ok (hp_ty 1 k) v) (ha : ml_ar k = 0)
    (hd : decode M.2.1 pc = .ok (.putfield idx, 3)) (kk : ∀ G', ml_W z (ml_sf σ k v) G' → ml_F z jm.2.1 r G' → wk_V z.1 M (ml_j z jm) (pc + 3) lv st G' r) : wk_V z.1 M (ml_j z jm) pc lv (vI v :: vR (some z.2.1) :: st) G r :=
  wk_putI 1 k hF hty hfin h1.1.1 h1.1.2 hok hd (kk _ (h1.sf ha) (h2.sI (Or.inl rfl)))
theorem ml_iald (k : Nat) {i : Int32} (h1 : ml_W z σ G) (ha : ml_ar k = 28) (hin : vp_in i (ml_len k)) (hd : decode M.2.1 pc = .ok (.iaload, 1)) (kk : wk_V z.1 M (ml_j z jm) (pc + 1) lv (vI (σ.2 k i.toNatClampNeg) :: st) G r) : wk_V z.1 M (ml_j z jm) pc lv (vI i :: vR (some (z.2.2.1 k)) :: st) G r := by
  obtain ⟨-, e2, e3, -⟩ := h1.2.1 k (by omega)
  exact wk_iald (by rw [e2]; exact ha) (by rw [e3]; exact hin) hd (by rw [h1.2.2.2.2 k (by omega)]; exact kk)
theorem ml_bald (k : Nat) {i : Int32} (h1 : ml_W z σ G) (ha : ml_ar k = 30) (hin : vp_in i (ml_len k)) (hd : decode M.2.1 pc = .ok (.baload, 1)) (kk : wk_V z.1 M (ml_j z jm) (pc + 1) lv (vI (σ.2 k i.toNatClampNeg) :: st) G r) : wk_V z.1 M (ml_j z jm) pc lv (vI i :: vR (some (z.2.2.1 k)) :: st) G r := by
  obtain ⟨-, e2, e3, -⟩ := h1.2.1 k (by omega)
  exact wk_bald (by rw [e2]; exact ha) (by rw [e3]; exact hin) hd (by rw [h1.2.2.2.2 k (by omega)]; exact kk)
theorem ml_zald (k : Nat) {i : Int32} (h1 : ml_W z σ G) (ha : ml_ar k = 29) (hin : vp_in i (ml_len k)) (hd : decode M.2.1 pc = .ok (.baload, 1)) (kk : wk_V z.1 M (ml_j z jm) (pc + 1) lv (vI (σ.2 k i.toNatClampNeg) :: st) G r) : wk_V z.1 M (ml_j z jm) pc lv (vI i :: vR (some (z.2.2.1 k)) :: st) G r := by
  obtain ⟨-, e2, e3, -⟩ := h1.2.1 k (by omega)
  exact wk_zald (by rw [e2]; exact ha) (by rw [e3]; exact hin) hd (by rw [h1.2.2.2.2 k (by omega)]; exact kk)
theorem ml_alen (k : Nat) (h1 : ml_W z σ G) (ha : ml_ar k ≠ 0) (hd : decode M.2.1 pc = .ok (.arraylength, 1)) (kk : wk_V z.1 M (ml_j z jm) (pc + 1) lv (vI (nI (ml_len k)) :: st) G r) : wk_V z.1 M (ml_j z jm) pc lv (vR (some (z.2.2.1 k)) :: st) G r := by
  obtain ⟨-, e2, e3, -⟩ := h1.2.1 k ha
  exact wk_alen (by rw [e2]; exact (ml_ar28 k ha).1) hd (by rw [e3]; exact kk)
theorem ml_iast (k : Nat) {i v : Int32} (h1 : ml_W z σ G) (h2 : ml_F z jm.2.1 r G) (ha : ml_ar k = 28) (hin : vp_in i (ml_len k)) (hd : decode M.2.1 pc = .ok (.iastore, 1)) (kk : ∀ G', ml_W z (ml_sa σ k i.toNatClampNeg v) G' → ml_F z jm.2.1 r G' → wk_V z.1 M (ml_j z jm) (pc + 1) lv st G' r) : wk_V z.1 M (ml_j z jm) pc lv (vI v :: vI i :: vR (some (z.2.2.1 k)) :: st) G r := by
  obtain ⟨-, e2, e3, e4⟩ := h1.2.1 k (by omega)
  exact wk_iast (by rw [e2]; exact ha) e4 (by rw [e3]; exact hin) hd (kk _ (h1.sa (by omega)) (h2.sI (Or.inr ⟨k, by omega, rfl⟩)))
theorem ml_bast (k : Nat) {i v : Int32} (h1 : ml_W z σ G) (h2 : ml_F z jm.2.1 r G) (ha : ml_ar k = 30) (hin : vp_in i (ml_len k)) (hd : decode M.2.1 pc = .ok (.bastore, 1)) (kk : ∀ G', ml_W z (ml_sa σ k i.toNatClampNeg v.toInt8.toInt32) G' → ml_F z jm.2.1 r G' → wk_V z.1 M (ml_j z jm) (pc + 1) lv st G' r) : wk_V z.1 M (ml_j z jm) pc lv (vI v :: vI i :: vR (some (z.2.2.1 k)) :: st) G r := by
  obtain ⟨-, e2, e3, e4⟩ := h1.2.1 k (by omega)
  exact wk_bast (by rw [e2]; exact ha) e4 (by rw [e3]; exact hin) hd (kk _ (h1.sa (by omega)) (h2.sI (Or.inr ⟨k, by omega, rfl⟩)))
theorem ml_zast (k : Nat) {i v : Int32} (h1 : ml_W z σ G) (h2 : ml_F z jm.2.1 r G) (ha : ml_ar k = 29) (hin : vp_in i (ml_len k)) (hv : v = 0 ∨ v = 1) (hd : decode M.2.1 pc = .ok (.bastore, 1)) (kk : ∀ G', ml_W z (ml_sa σ k i.toNatClampNeg v) G' → ml_F z jm.2.1 r G' → wk_V z.1 M (ml_j z jm) (pc + 1) lv st G' r) : wk_V z.1 M (ml_j z jm) pc lv (vI v :: vI i :: vR (some (z.2.2.1 k)) :: st) G r := by
  obtain ⟨-, e2, e3, e4⟩ := h1.2.1 k (by omega)
  exact wk_zast (by rw [e2]; exact ha) e4 (by rw [e3]; exact hin) hv hd (kk _ (h1.sa (by omega)) (h2.sI (Or.inr ⟨k, by omega, rfl⟩)))
/-- what a callee of the reference's own leaves -/
theorem ml_ret {b' pc' : Nat} {P : Option WV → MS → GH → Prop} (hr : r = jm.2.1) (kr : ∀ v σ', ml_V z M jm pc' lv (v.toList ++ st) σ' (P v σ') r) : ∀ v G', ml_P z P v G' → wk_V z.1 M (ml_j z jm) pc' lv (v.toList ++ st) G' (r - b') :=
  fun v G' ⟨σ', h1, h2, h3⟩ => wk_raise (r' := r) (by show hp_cs G' + r ≤ hp_cs z.2.2.2 + jm.2.1; rw [h2.2.1, hr]; exact Nat.le_refl _) (by show hp_ss G' + 12 * r ≤ hp_ss z.2.2.2 + 12 * jm.2.1; rw [h2.2.2, hr]; exact Nat.le_refl _) (kr v σ' G' h1 ⟨h2.1, Nat.le_of_eq hr, fun _ => h2.2⟩ h3)
/-- the same of one that leaves a Wrong that it made -/
theorem ml_retD {b' pc' : Nat} {P : Option WV → MS → GH → Prop} (hr : r = jm.2.1) (hb : b' ≤ r) (hb1 : 1 ≤ b') (kr : ∀ v σ', ml_V z M jm pc' lv (v.toList ++ st) σ' (P v σ') (r - b')) : ∀ v G', ml_PD z P v G' → wk_V z.1 M (ml_j z jm) pc' lv (v.toList ++ st) G' (r - b') :=
  fun v G' ⟨σ', h1, h2, h3⟩ => kr v σ' G' h1 ⟨h2, by omega, fun e => by omega⟩ h3
theorem ml_thr {b' : Nat} {PX : Int32 → Int32 → MS → Prop} (hh : M.2.2.2.2 = []) (kx : ∀ kd pl σ', PX kd pl σ' → jm.2.2.2 kd pl σ') : ∀ E q G', ml_X z PX E q G' → wk_T z.1 M (ml_j z jm) pc lv G' (r - b') E q :=
  fun E q G' ⟨hE, hk, σ', h1, h2, h3⟩ => wk_out0 hh ⟨hE, hk, σ', h1, h2, kx _ _ _ h3⟩
theorem ml_thr0 {b' : Nat} {PX : Int32 → Int32 → MS → Prop} (h0 : ∀ kd pl σ', PX kd pl σ' → False) : ∀ E q G', ml_X z PX E q G' → wk_T z.1 M (ml_j z jm) pc lv G' (r - b') E q :=
  fun E q G' ⟨_, _, _, _, _, h3⟩ => absurd h3 (fun h => h0 _ _ _ h)
/-- 'throw' of a Wrong that was made -/
theorem ml_athrow {q : Nat} (h1 : ml_W z σ G) (h2 : ml_F z jm.2.1 r G) (hh : M.2.2.2.2 = []) (hk : hp_kd G q = 4) (hd : decode M.2.1 pc = .ok (.athrow, 1)) (hP : jm.2.2.2 (hp_i G q 6) (hp_i G q 7) σ) : wk_V z.1 M (ml_j z jm) pc lv (vR (some q) :: st) G r :=
  wk_athrow (by rw [hk]; decide) (by rw [hk]; decide) hd (wk_out0 hh (by rw [hk]; exact ⟨rfl, hk, σ, h1, h2.1, hP⟩))
end
