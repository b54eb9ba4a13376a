/-! THE COMPONENT's finish: clocks; what the methods owe -/
set_option maxRecDepth 100000
section
variable {S : MS}
theorem jg_cl_add {m2 : Nat} : ∀ m A e, jg_cl S (m + m2) A e = match jg_cl S m A e with
    | .inl k => .inl k
    | .inr A1 => jg_cl S m2 A1 (e + m) := by
  intro m
  induction m with
  | zero => intro A e; rw [Nat.zero_add]; rfl
  | succ m ih =>
    intro A e
    rw [show m + 1 + m2 = (m + m2) + 1 by omega, jg_cl, jg_cl]
    cases h : jc S A e (kls S e) with
    | inl k => rfl
    | inr t =>
      show jg_cl S (m + m2) (jg_up A e t) (e + 1) = _
      rw [ih]
      rw [show e + (m + 1) = e + 1 + m by omega]
theorem jg_cl_go {m m2 e : Nat} {A A1 : Nat → Int32} (h : jg_cl S m A e = .inr A1) : jg_cl S (m + m2) A e = jg_cl S m2 A1 (e + m) := by
  rw [jg_cl_add, h]
theorem jg_cl_no {m e k : Nat} {kd : Int32} {A : Nat → Int32} (h : jg_cl S m A e = .inl kd) (hk : m ≤ k) : jg_cl S k A e = .inl kd := by
  rw [show k = m + (k - m) by omega, jg_cl_add, h]
theorem jg_cl_1 {e : Nat} {A : Nat → Int32} : jg_cl S 1 A e = match jc S A e (kls S e) with
    | .inl k => .inl k
    | .inr t => .inr (jg_up A e t) := by
  rw [jg_cl]
  cases jc S A e (kls S e) <;> rfl
/-- clocks go wrong in one way alone -/
theorem jc_two_6 {a b k : Int32} (h : jc_two a b = .inl k) : k = 6 := by
  unfold jc_two at h
  split at h
  · cases h
  · split at h
    · cases h
    · exact (Sum.inl.inj h).symm
theorem jc_all_6 {C : Nat → Int32} {k : Int32} : ∀ (ks : List Nat) (c : Int32), jc_all C c ks = .inl k → k = 6
  | [], c, h => by cases h
  | x :: ks, c, h => by
    rw [jc_all] at h
    split at h
    · rename_i e he
      rw [← Sum.inl.inj h]
      exact jc_two_6 he
    · exact jc_all_6 ks _ h
theorem jc_6 {C : Nat → Int32} {e : Nat} {ks : List Nat} {k : Int32} (h : jc S C e ks = .inl k) : k = 6 := by
  unfold jc at h
  split at h
  · cases h
  split at h
  · split at h
    · rename_i e he
      rw [← Sum.inl.inj h]
      exact jc_two_6 he
    · cases h
  split at h
  · split at h
    · exact (Sum.inl.inj h).symm
    · cases h
  · exact jc_all_6 ks _ h
theorem jg_cl_6 {k : Int32} : ∀ M C e, jg_cl S M C e = .inl k → k = 6 := by
  intro M
  induction M with
  | zero => intro C e h; cases h
  | succ M ih =>
    intro C e h
    rw [jg_cl] at h
    split at h
    · rename_i t ht
      rw [← Sum.inl.inj h]
      exact jc_6 ht
    · exact ih _ _ h
end
section
variable {q : PZ} {S : MS} {X : Nat → Nat} {lo hi n a : Nat} {G G0 G' : GH} {C C0 : Nat → Int32} {own : Nat → Prop}
/-- a clock of the code c -/
def bc (q : PZ) (a : Nat) (G : GH) (b : Nat) (c : Int32) : Prop := (c = -2 ∧ zANY q.1.1 = some b) ∨ (c = -1 ∧ zBASE q.1.1 = some b) ∨ ∃ k s, s < 2 ∧ k < 2 ^ 29 ∧ c = nI (2 * k + s) ∧ hp_kd G b = 5 ∧ hp_r G b 0 = some (qV q (a + k)) ∧ hp_i G b 1 = nI s
theorem bc.fr {b : Nat} {c : Int32} (h : bc q a G b c) (hf : cf own G G') (ho : ∀ y, own y → hp_kd G y ≠ 5) : bc q a G' b c := by
  rcases h with h | h | ⟨k, s, k1, k2, k3, k4, k5, k6⟩
  · exact Or.inl h
  · exact Or.inr (Or.inl h)
  · have kb : hp_kd G b ≠ 0 := by rw [k4]; decide
    have nb : ¬ own b := fun u => ho _ u k4
    exact Or.inr (Or.inr ⟨k, s, k1, k2, k3, hf.k k4 (by decide), by rw [hf.r kb nb]; exact k5, by rw [hf.i kb nb]; exact k6⟩)
theorem bt.bc {b dp : Nat} {c : Int32} (h : bt q.1.1 (qV q) a G b c dp) : bc q a G b c := by
  rcases h with ⟨h1, h2, -⟩ | ⟨k, s, k1, k2, k3, k4, k5, k6, -⟩
  · exact Or.inr (Or.inl ⟨h1, h2⟩)
  · exact Or.inr (Or.inr ⟨k, s, k1, k2, k3, k4, k5, k6⟩)
theorem bc.kd {b : Nat} {c : Int32} (h : bc q a G b c) (hk : kc q.1.1 G) : hp_kd G b = 5 := by
  obtain ⟨-, -, ⟨x, y, y1, y2, y3, ⟨y4, y5, y6⟩, y7, y8, y9⟩, -⟩ := hk
  rcases h with ⟨-, h⟩ | ⟨-, h⟩ | ⟨k, s, k1, k2, k3, k4, k5, k6⟩
  · rw [y2] at h; rw [← Option.some.inj h]; exact y7
  · rw [y1] at h; rw [← Option.some.inj h]; exact y4
  · exact k4
theorem nI_n2 {w : Nat} (h : w < 2 ^ 30) : nI w ≠ -2 ∧ nI w ≠ -1 := ⟨fun u => nI_pos (n := w) (by omega) (by rw [u]; decide), fun u => nI_pos (n := w) (by omega) (by rw [u]; decide)⟩
/-- which clock it is -/
theorem bc.any {b : Nat} {c : Int32} (h : bc q a G b c) (hk : kc q.1.1 G) : some b = hp_sv q.1.1 "StreamNodes" "ANY" ↔ c = -2 := by
  obtain ⟨-, -, ⟨x, y, y1, y2, y3, ⟨y4, y5, y6⟩, y7, y8, y9⟩, -⟩ := hk
  have e : hp_sv q.1.1 "StreamNodes" "ANY" = some y := y2
  rw [e]
  rcases h with ⟨h1, h⟩ | ⟨h1, h⟩ | ⟨k, s, k1, k2, k3, k4, k5, k6⟩
  · rw [y2] at h; exact ⟨fun _ => h1, fun _ => h.symm⟩
  · rw [y1] at h; exact ⟨fun u => absurd (Option.some.inj (h.trans u)) y3, fun u => by rw [h1] at u; exact absurd u (by decide)⟩
  · exact ⟨fun u => (by rw [Option.some.inj u, y9] at k5; cases k5), fun u => absurd (k3.symm.trans u) (nI_n2 (by omega)).1⟩
theorem bc.base {b : Nat} {c : Int32} (h : bc q a G b c) (hk : kc q.1.1 G) : some b = hp_sv q.1.1 "StreamNodes" "BASE" ↔ c = -1 := by
  obtain ⟨-, -, ⟨x, y, y1, y2, y3, ⟨y4, y5, y6⟩, y7, y8, y9⟩, -⟩ := hk
  have e : hp_sv q.1.1 "StreamNodes" "BASE" = some x := y1
  rw [e]
  rcases h with ⟨h1, h⟩ | ⟨h1, h⟩ | ⟨k, s, k1, k2, k3, k4, k5, k6⟩
  · rw [y2] at h; exact ⟨fun u => absurd (Option.some.inj (h.trans u)).symm y3, fun u => by rw [h1] at u; exact absurd u (by decide)⟩
  · rw [y1] at h; exact ⟨fun _ => h1, fun _ => h.symm⟩
  · exact ⟨fun u => (by rw [Option.some.inj u, y6] at k5; cases k5), fun u => absurd (k3.symm.trans u) (nI_n2 (by omega)).2⟩
theorem X1_alike_C {b b' d : Nat} {c c' : Int32} (hk : kc q.1.1 G) (h : bc q a G b c) (h' : bc q a G b' c') (hc : c ≠ -2) (hc' : c' ≠ -2) (hinj : ∀ k k' s s', c = nI (2 * k + s) → c' = nI (2 * k' + s') → s < 2 → s' < 2 → k < 2 ^ 29 → k' < 2 ^ 29 → qV q (a + k) = qV q (a + k') → k = k') : wk_C q.1.1 mX1_alike d 0 [vR (some b), vR (some b')] G (fun v G' => v = some (vI (if c = c' then 1 else 0)) ∧ G' = G) (fun _ _ _ => False) := by
  have k5 := h.kd hk
  have k5' := h'.kd hk
  have n1 : ¬ some b = hp_sv q.1.1 "StreamNodes" "ANY" := fun u => hc ((h.any hk).1 u)
  have n2 : ¬ some b' = hp_sv q.1.1 "StreamNodes" "ANY" := fun u => hc' ((h'.any hk).1 u)
  obtain ⟨-, -, ⟨x, y, y1, y2, y3, ⟨y4, y5, y6⟩, y7, y8, y9⟩, -⟩ := hk
  refine wk_C_of (by decide) rfl (Nat.le_of_ble_eq_true rfl) ?_
  have fin : c = c' → wk_V q.1.1 mX1_alike (d, 0, (fun v G' => v = some (vI (if c = c' then 1 else 0)) ∧ G' = G), (fun _ _ _ => False), hp_cs G, hp_ss G) 29 [(0, vR (some b)), (1, vR (some b'))] [] G 0 := fun e => by
    refine blX1_alike_29 (fun _ => ?_) (fun u => absurd u n1)
    refine blX1_alike_40 (blX1_alike_41 (fun _ => blX1_alike_52 (blX1_alike_53 (fun u => absurd rfl u) (fun _ => blX1_alike_56 (blX1_alike_61 rfl ⟨by rw [if_pos e], rfl⟩)))) (fun u => absurd u n2))
  have nfin : c ≠ c' → wk_V q.1.1 mX1_alike (d, 0, (fun v G' => v = some (vI (if c = c' then 1 else 0)) ∧ G' = G), (fun _ _ _ => False), hp_cs G, hp_ss G) 60 [] [] G 0 := fun e => blX1_alike_60 (blX1_alike_61 rfl ⟨by rw [if_neg e], rfl⟩)
  rcases h with ⟨h1, -⟩ | ⟨h1, h⟩ | ⟨k, s, k1, k2, k3, k4, k5b, k6⟩
  · exact absurd h1 hc
  · rw [y1] at h
    have eb := Option.some.inj h
    subst eb
    rcases h' with ⟨h1', -⟩ | ⟨h1', h'⟩ | ⟨k', s', k1', k2', k3', k4', k5', k6'⟩
    · exact absurd h1' hc'
    · rw [y1] at h'
      have eb := Option.some.inj h'
      subst eb
      refine blX1_alike_0 rfl k5 rfl k5 (fun u => absurd rfl u) (fun _ => ?_)
      exact blX1_alike_11 rfl k5 (fun _ => fin (by rw [h1, h1'])) (fun o9 u => by rw [y6] at u; cases u)
    · refine blX1_alike_0 rfl k5 rfl k4' (fun u => nfin ?_) (fun u => by rw [y6, k5'] at u; cases u)
      rw [h1, k3']
      exact (nI_n2 (by omega)).2.symm
  · rcases h' with ⟨h1', -⟩ | ⟨h1', h'⟩ | ⟨k', s', k1', k2', k3', k4', k5b', k6'⟩
    · exact absurd h1' hc'
    · rw [y1] at h'
      have eb := Option.some.inj h'
      subst eb
      refine blX1_alike_0 rfl k5 rfl y4 (fun u => nfin ?_) (fun u => by rw [y6, k5b] at u; cases u)
      rw [h1', k3]
      exact (nI_n2 (by omega)).2
    · refine blX1_alike_0 rfl k5 rfl k4' (fun u => nfin (fun e => u ?_)) (fun u => ?_)
      · rw [k3, k3'] at e
        have := (nI_eq (by omega) (by omega)).1 e
        have ek : k = k' := by omega
        rw [k5b, k5b', ek]
      · rw [k5b, k5b'] at u
        have ek := hinj k k' s s' k3 k3' k1 k1' k2 k2' (Option.some.inj u)
        refine blX1_alike_11 rfl k5 (fun w => by rw [k5b] at w; cases w) (fun o9 _ => ?_)
        refine blX1_alike_18 rfl k5 rfl k4' (fun w => nfin (fun e => w ?_)) (fun w => fin ?_)
        · rw [k3, k3'] at e
          have := (nI_eq (by omega) (by omega)).1 e
          rw [k6, k6', show s = s' by omega]
        · rw [k6, k6'] at w
          have := (nI_eq (by omega) (by omega)).1 w
          rw [k3, k3', ek, this]
/-- variables' objects differ -/
theorem tw.vinj (h : tw q lo hi S X G) (hV : pe_V n S) {c c' : Int32} (h1 : jq S c) (h2 : jq S c') : ∀ k k' s s', c = nI (2 * k + s) → c' = nI (2 * k' + s') → s < 2 → s' < 2 → k < 2 ^ 29 → k' < 2 ^ 29 → qV q (pr_a S + k) = qV q (pr_a S + k') → k = k' := by
  intro k k' s s' e1 e2 l1 l2 l3 l4 e
  have hv6 := hV.N.2.2.2.1
  have hb : ∀ (c : Int32) (k s : Nat), jq S c → c = nI (2 * k + s) → s < 2 → k < 2 ^ 29 → pr_a S + k < pr_v S := by
    intro c k s hq e ls lk
    rcases hq with u | u | ⟨w, w1, w2, w3⟩
    · rw [e] at u; exact absurd u (nI_n2 (by omega)).1
    · rw [e] at u; exact absurd u (nI_n2 (by omega)).2
    · rw [e] at w2
      have := (nI_eq (by omega) (by omega)).1 w2
      omega
  have b1 := hb c k s h1 e1 l1 l3
  have b2 := hb c' k' s' h2 e2 l2 l4
  obtain ⟨F, hF⟩ := h.2.2.1 _ (Nat.le_add_right _ _) b1
  obtain ⟨F', hF'⟩ := h.2.2.1 _ (Nat.le_add_right _ _) b2
  have := hF.inj hF' ⟨by omega, by omega⟩ ⟨by omega, by omega⟩ e
  omega
/-- the clock of the expression e has the code c -/
def clk (q : PZ) (S : MS) (G : GH) (X : Nat → Nat) (e : Nat) (c : Int32) : Prop := ∃ b, hp_r G (X e) 1 = some b ∧ bc q (pr_a S) G b c
/-- clock's end -/
def ckP (q : PZ) (S : MS) (X : Nat → Nat) (C : Nat → Int32) (e : Nat) (G : GH) (v : Option WV) (G' : GH) : Prop := ∃ C', jg_cl S (e + 1 - lw (S.2 34) e) C (lw (S.2 34) e) = .inr C' ∧ v = some (vR (hp_r G' (X e) 1)) ∧ tf X (lw (S.2 34) e) (e + 1) G G' ∧ ∀ x, lw (S.2 34) e ≤ x → x < e + 1 → clk q S G' X x (C' x) ∧ jq S (C' x)
def ckX (q : PZ) (S : MS) (X : Nat → Nat) (C : Nat → Int32) (e : Nat) (G : GH) (E : String) (a : Nat) (G' : GH) : Prop := jg_cl S (e + 1 - lw (S.2 34) e) C (lw (S.2 34) e) = .inl 6 ∧ wx q X (lw (S.2 34) e) (e + 1) G 6 E a G'
/-- clocked's end -/
def cdP (q : PZ) (S : MS) (X : Nat → Nat) (C : Nat → Int32) (e : Nat) (G : GH) (v : Option WV) (G' : GH) : Prop := ∃ C' t bb, jg_cl S (e - lw (S.2 34) e) C (lw (S.2 34) e) = .inr C' ∧ jc S C' e (kls S e) = .inr t ∧ v = some (vR (some bb)) ∧ bc q (pr_a S) G' bb t ∧ tf X (lw (S.2 34) e) e G G' ∧ ∀ x, lw (S.2 34) e ≤ x → x < e → clk q S G' X x (C' x) ∧ jq S (C' x)
/-- among the parts -/
def ckS (q : PZ) (S : MS) (X : Nat → Nat) (l0 : Nat) (C0 : Nat → Int32) (G0 : GH) (l : Nat) (C : Nat → Int32) (G : GH) : Prop := l0 ≤ l ∧ jg_cl S (l - l0) C0 l0 = .inr C ∧ tf X l0 l G0 G ∧ ∀ x, l0 ≤ x → x < l → clk q S G X x (C x) ∧ jq S (C x)
theorem ckS.z {l0 : Nat} : ckS q S X l0 C0 G0 l0 C0 G0 := ⟨Nat.le_refl _, by rw [Nat.sub_self]; rfl, tf.rf, fun k h1 h2 => by omega⟩
theorem clk.wt {x l2 h2 : Nat} {c : Int32} (h : clk q S G X x c) (hw : tw q lo hi S X G) (hx : lo ≤ x ∧ x < hi) (hf : tf X l2 h2 G G') (a1 : lo ≤ l2) (a2 : h2 ≤ hi) (hn : x < l2 ∨ h2 ≤ x) : clk q S G' X x c := by
  obtain ⟨b, b1, b2⟩ := h
  have kx := hw.k hx.1 hx.2
  refine ⟨b, ?_, b2.fr hf.1 ?_⟩
  · rw [hf.r (by omega) (fun e u1 u2 => hw.inj hx.1 hx.2 (by omega) (by omega) (by omega))]
    exact b1
  · rintro y ⟨e, u1, u2, rfl⟩
    have := hw.k (e := e) (by omega) (by omega)
    omega
theorem ckS.step {l0 l k : Nat} {v : Option WV} (hw : tw q lo hi S X G) (hpw : pw S lo hi) (hh : hi ≤ 5000) (hlo : lo ≤ l0) (h : ckS q S X l0 C0 G0 l C G) (hl : lw (S.2 34) k = l) (hlk : l ≤ k) (hk : k < hi) (hP : ckP q S X C k G v G') :
    ∃ C', v = some (vR (hp_r G' (X k) 1)) ∧ ckS q S X l0 C0 G0 (k + 1) C' G' ∧ ∀ j, j < l → C' j = C j := by
  obtain ⟨h1, h2, h3, h4⟩ := h
  obtain ⟨C', p1, p2, p3, p4⟩ := hP
  rw [hl] at p1 p3 p4
  have hfix := jg_cl_fix _ _ _ _ (fun x x1 x2 => (hpw x (by omega) (by omega)).2.kids (by omega)) p1
  refine ⟨C', p2, ⟨by omega, ?_, (h3.mono (Nat.le_refl _) (by omega)).tr p3 h1 (Nat.le_refl _), fun x u1 u2 => ?_⟩, fun j hj => hfix.1 j (Or.inl hj)⟩
  · rw [show k + 1 - l0 = (l - l0) + (k + 1 - l) by omega, jg_cl_go h2, show l0 + (l - l0) = l by omega]
    exact p1
  · rcases Nat.lt_or_ge x l with w | w
    · rw [hfix.1 x (Or.inl w)]
      obtain ⟨c1, c2⟩ := h4 x u1 w
      exact ⟨c1.wt hw ⟨by omega, by omega⟩ p3 (by omega) (by omega) (Or.inl w), c2⟩
    · exact p4 x w u2
theorem ckS.err {l0 l k e a : Nat} {E : String} (h : ckS q S X l0 C0 G0 l C G) (hl : lw (S.2 34) k = l) (hlk : l ≤ k) (hk : k < e) (hP : ckX q S X C k G E a G') : jg_cl S (e + 1 - l0) C0 l0 = .inl 6 ∧ wx q X l0 (e + 1) G0 6 E a G' := by
  obtain ⟨h1, h2, h3, h4⟩ := h
  obtain ⟨p1, p2⟩ := hP
  rw [hl] at p1 p2
  refine ⟨jg_cl_no (m := (l - l0) + (k + 1 - l)) ?_ (by omega), p2.up (h3.mono (Nat.le_refl _) (by omega)) h1 (by omega)⟩
  rw [jg_cl_go h2, show l0 + (l - l0) = l by omega]
  exact p1
/-- wrong at e, seen after the part before l -/
theorem ckS.thr {l0 l e : Nat} (hw : tw q lo hi S X G) (hpw : pw S lo hi) (hh : hi ≤ 5000) (hlo : lo ≤ l0) (h2 : e < hi) (hle : l ≤ e) (h : ckS q S X l0 C0 G0 l C G) (hl0 : lw (S.2 34) e = l0) (hj : ∀ C', (∀ j, j < l → C' j = C j) → jc S C' e (kls S e) = .inl 6) : ckX q S X C0 e G0 (hp_C (hp_kd G q.1.2.2.2.1)) q.1.2.2.2.1 (hp_sI G q.1.2.2.2.1 6 6) := by
  obtain ⟨h1, g2, h3, h4⟩ := h
  refine ⟨?_, by rw [hw.1.1.2.1.1]; rfl, rfl, G, by rw [hl0]; exact h3.mono (Nat.le_refl _) (by omega), hw.1.1.2.1.1, rfl⟩
  rw [hl0]
  cases hr : jg_cl S (e + 1 - l0) C0 l0 with
  | inl kd => rw [jg_cl_6 _ _ _ hr]
  | inr C1 =>
    exfalso
    rw [show e + 1 - l0 = (l - l0) + ((e - l) + 1) by omega, jg_cl_go g2, show l0 + (l - l0) = l by omega, jg_cl_add] at hr
    cases hm : jg_cl S (e - l) C l with
    | inl kd => rw [hm] at hr; cases hr
    | inr C2 =>
      rw [hm] at hr
      have hfix := jg_cl_fix _ _ _ _ (fun x x1 x2 => (hpw x (by omega) (by omega)).2.kids (by omega)) hm
      have hr : jg_cl S 1 C2 (l + (e - l)) = .inr C1 := hr
      rw [show l + (e - l) = e by omega, jg_cl_1, hj C2 (fun j u => hfix.1 j (Or.inl u))] at hr
      cases hr
theorem ckS.end {l0 e bb : Nat} {t : Int32} (h : ckS q S X l0 C0 G0 e C G) (hl0 : lw (S.2 34) e = l0) (hj : jc S C e (kls S e) = .inr t) (hb : bc q (pr_a S) G bb t) : cdP q S X C0 e G0 (some (vR (some bb))) G := by
  obtain ⟨h1, h2, h3, h4⟩ := h
  refine ⟨C, t, bb, by rw [hl0]; exact h2, hj, rfl, hb, by rw [hl0]; exact h3, fun x u1 u2 => h4 x (by omega) u2⟩
def ckIH (q : PZ) (S : MS) (X : Nat → Nat) (lo hi D : Nat) (ks : List Nat) : Prop := ∀ k ∈ ks, ∀ C G, tw q lo hi S X G → wk_C q.1.1 mX11_clock D (k + 1 - lw (S.2 34) k) [vR (some (X k))] G (ckP q S X C k G) (ckX q S X C k G)
end
