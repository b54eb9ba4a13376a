/-! THE COMPONENT: frames, budgets, owners -/
set_option maxRecDepth 100000
/-- what was known stands, but for the contents of own cells -/
def cf (own : Nat → Prop) (G G' : GH) : Prop := ∀ a, hp_kd G a ≠ 0 → (hp_kd G' a = hp_kd G a ∧ hp_ln G' a = hp_ln G a ∧ hp_l G' a = hp_l G a) ∧ (¬ own a → hp_i G' a = hp_i G a ∧ hp_r G' a = hp_r G a ∧ hp_l G' a = hp_l G a)
theorem cf.rf {own : Nat → Prop} {G : GH} : cf own G G := fun _ _ => ⟨⟨rfl, rfl, rfl⟩, fun _ => ⟨rfl, rfl, rfl⟩⟩
theorem cf.kd {own : Nat → Prop} {G G' : GH} (h : cf own G G') {a : Nat} (ha : hp_kd G a ≠ 0) : hp_kd G' a = hp_kd G a := (h a ha).1.1
theorem cf.ne {own : Nat → Prop} {G G' : GH} (h : cf own G G') {a : Nat} (ha : hp_kd G a ≠ 0) : hp_kd G' a ≠ 0 := by rw [h.kd ha]; exact ha
theorem cf.k {own : Nat → Prop} {G G' : GH} (h : cf own G G') {a c : Nat} (ha : hp_kd G a = c) (hc : c ≠ 0) : hp_kd G' a = c := (h.kd (by rw [ha]; exact hc)).trans ha
theorem cf.ln {own : Nat → Prop} {G G' : GH} (h : cf own G G') {a : Nat} (ha : hp_kd G a ≠ 0) : hp_ln G' a = hp_ln G a := (h a ha).1.2.1
/-- notes (whose a cell is) stand always -/
theorem cf.lg {own : Nat → Prop} {G G' : GH} (h : cf own G G') {a : Nat} (ha : hp_kd G a ≠ 0) : hp_l G' a = hp_l G a := (h a ha).1.2.2
theorem cf.i {own : Nat → Prop} {G G' : GH} (h : cf own G G') {a : Nat} (ha : hp_kd G a ≠ 0) (ho : ¬ own a) : hp_i G' a = hp_i G a := ((h a ha).2 ho).1
theorem cf.r {own : Nat → Prop} {G G' : GH} (h : cf own G G') {a : Nat} (ha : hp_kd G a ≠ 0) (ho : ¬ own a) : hp_r G' a = hp_r G a := ((h a ha).2 ho).2.1
theorem cf.l {own : Nat → Prop} {G G' : GH} (h : cf own G G') {a : Nat} (ha : hp_kd G a ≠ 0) (ho : ¬ own a) : hp_l G' a = hp_l G a := ((h a ha).2 ho).2.2
theorem cf.fresh {own : Nat → Prop} {G G' : GH} (h : cf own G G') {a : Nat} (ha : hp_kd G' a = 0) : hp_kd G a = 0 :=
  Decidable.byContradiction fun q => h.ne q ha
/-- one behind the other: what the second may change was allowed, or wasn't known -/
theorem cf.tr2 {own own2 : Nat → Prop} {G G1 G2 : GH} (h : cf own G G1) (h2 : cf own2 G1 G2) (hs : ∀ a, hp_kd G a ≠ 0 → own2 a → own a) : cf own G G2 := fun a ha => by
  obtain ⟨⟨e1, e2, e7⟩, e3⟩ := h a ha
  obtain ⟨⟨f1, f2, f7⟩, f3⟩ := h2 a (h.ne ha)
  refine ⟨⟨f1.trans e1, f2.trans e2, f7.trans e7⟩, fun ho => ?_⟩
  obtain ⟨e4, e5, e6⟩ := e3 ho
  obtain ⟨f4, f5, f6⟩ := f3 (fun q => ho (hs a ha q))
  exact ⟨f4.trans e4, f5.trans e5, f6.trans e6⟩
theorem cf.tr {own : Nat → Prop} {G G1 G2 : GH} (h : cf own G G1) (h2 : cf own G1 G2) : cf own G G2 := h.tr2 h2 (fun _ _ q => q)
theorem cf.mono {own own2 : Nat → Prop} {G G1 : GH} (h : cf own G G1) (hs : ∀ a, hp_kd G a ≠ 0 → own a → own2 a) : cf own2 G G1 := cf.rf.tr2 h hs
/-- one cell changes, own or not known at the start -/
theorem cf.st {own : Nat → Prop} {G0 G G' : GH} {a : Nat} (h : cf own G0 G) (ha : own a ∨ hp_kd G0 a = 0) (hk : ∀ b, hp_kd G0 b ≠ 0 → hp_kd G' b = hp_kd G b ∧ hp_ln G' b = hp_ln G b) (hl : hp_kd G0 a ≠ 0 → hp_l G' a = hp_l G a) (hne : ∀ b : Nat, b ≠ a → hp_kd G' b = hp_kd G b ∧ hp_ln G' b = hp_ln G b ∧ hp_i G' b = hp_i G b ∧ hp_r G' b = hp_r G b ∧ hp_l G' b = hp_l G b) : cf own G0 G' := fun b hb => by
  obtain ⟨⟨e1, e2, e7⟩, e3⟩ := h b hb
  obtain ⟨k1, k2⟩ := hk b hb
  have k7 : hp_l G' b = hp_l G b := by
    by_cases q : b = a
    · subst q; exact hl hb
    · exact (hne b q).2.2.2.2
  refine ⟨⟨k1.trans e1, k2.trans e2, k7.trans e7⟩, fun ho => ?_⟩
  have hn : b ≠ a := fun e => by
    subst e
    exact ha.elim ho hb
  obtain ⟨-, -, f3, f4, f5⟩ := hne b hn
  obtain ⟨e4, e5, e6⟩ := e3 ho
  exact ⟨f3.trans e4, f4.trans e5, f5.trans e6⟩
section
variable {own : Nat → Prop} {G0 G : GH} {a k : Nat}
theorem cf.sI {v : Int32} (h : cf own G0 G) (ha : own a ∨ hp_kd G0 a = 0) : cf own G0 (hp_sI G a k v) := h.st ha (fun _ _ => ⟨rfl, rfl⟩) (fun _ => rfl) hp_sI_ne
theorem cf.sR {v : Option Nat} (h : cf own G0 G) (ha : own a ∨ hp_kd G0 a = 0) : cf own G0 (hp_sR G a k v) := h.st ha (fun _ _ => ⟨rfl, rfl⟩) (fun _ => rfl) hp_sR_ne
theorem cf.sL {v : Int64} (h : cf own G0 G) (ha : False ∨ hp_kd G0 a = 0) : cf own G0 (hp_sL G a k v) := h.st (ha.imp False.elim id) (fun _ _ => ⟨rfl, rfl⟩) (fun q => ha.elim False.elim (fun u => absurd u q)) hp_sL_ne
theorem cf.setI {f : Nat → Int32} (h : cf own G0 G) (ha : own a ∨ hp_kd G0 a = 0) : cf own G0 (hp_setI G a f) := h.st ha (fun _ _ => ⟨rfl, rfl⟩) (fun _ => rfl) hp_setI_ne
theorem cf.setR {f : Nat → Option Nat} (h : cf own G0 G) (ha : own a ∨ hp_kd G0 a = 0) : cf own G0 (hp_setR G a f) := h.st ha (fun _ _ => ⟨rfl, rfl⟩) (fun _ => rfl) hp_setR_ne
theorem cf.nw {c n : Nat} (h : cf own G0 G) (ha : hp_kd G a = 0) : cf own G0 (hp_nw G a c n) := h.st (Or.inr (h.fresh ha)) (fun b hb => by
  have hn : b ≠ a := fun e => by
    subst e
    exact h.ne hb ha
  exact ⟨(hp_nw_ne b hn).1, (hp_nw_ne b hn).2.1⟩) (fun q => absurd (h.fresh ha) q) hp_nw_ne
end
/-- at most u units were used -/
def cb (u : Nat) (G G' : GH) : Prop := hp_cs G' ≤ hp_cs G + u ∧ hp_ss G' ≤ hp_ss G + 12 * u
theorem cb.rf {u : Nat} {G : GH} : cb u G G := ⟨Nat.le_add_right _ _, Nat.le_add_right _ _⟩
theorem cb.tr {u v : Nat} {G G1 G2 : GH} (h : cb u G G1) (h2 : cb v G1 G2) : cb (u + v) G G2 := ⟨by have := h.1; have := h2.1; omega, by have := h.2; have := h2.2; omega⟩
theorem cb.mono {u v : Nat} {G G1 : GH} (h : cb u G G1) (hv : u ≤ v) : cb v G G1 := ⟨by have := h.1; omega, by have := h.2; omega⟩
/-- a contract's budget bounds what it uses -/
theorem wk_C.used {w : WD} {M : MI} {d b : Nat} {As : List WV} {G : GH} {P : Option WV → GH → Prop} {PX : String → Nat → GH → Prop} (h : wk_C w M d b As G P PX) : wk_C w M d b As G (fun v G' => P v G' ∧ cb b G G') (fun E q G' => PX E q G' ∧ cb b G G') := by
  intro l hl
  refine MetFree.mono (h l hl) (fun _ _ h => h) (fun _ _ _ _ _ h => h) ?_
  have key : ∀ (st t : State) (G' : GH) (L : List Loc), hp_R w G st.heap → hp_R w G' t.heap → st.sameButNew ({ t with vm := st.vm } : State) L b (12 * b) → cb b G G' := by
    intro st t G' L h1 h2 h3
    have h5 := hp_sl_same h3
    obtain ⟨-, -, g3, -, g5, -⟩ := h3
    have g3' : t.heap.size ≤ st.heap.size + b := g3
    have g5' : ((t.heap.toList.drop st.heap.size).map (·.slots.size)).sum ≤ 12 * b := g5
    have h5' : hp_sl t.heap = hp_sl st.heap + ((t.heap.toList.drop st.heap.size).map (·.slots.size)).sum := h5
    refine ⟨?_, ?_⟩
    · rw [h2.2.2.1, h1.2.2.1]; exact g3'
    · rw [h2.2.2.2, h1.2.2.2, h5']; omega
  rintro a st o t hP (⟨⟨v, G', e, h1, h2, h3⟩, L, ⟨hL1, hL2, hL3⟩, hL4⟩ | ⟨q, e, E, ce, L, ⟨G', h1, h2, h3⟩, c1, c2, c3, c4, c5, c6⟩)
  · exact Or.inl ⟨⟨v, G', e, ⟨h1, key st t G' L hP.2.1 h2 hL3⟩, h2, h3⟩, L, ⟨hL1, hL2, hL3⟩, hL4⟩
  · exact Or.inr ⟨q, e, E, ce, L, ⟨G', ⟨h1, key st t G' L hP.2.1 h2 c5⟩, h2, h3⟩, c1, c2, c3, c4, c5, c6⟩
section
variable {w : WD} {M : MI} {pc r d b : Nat} {lv : List (Nat × WV)} {st : List WV} {G G0 : GH} {P : Option WV → GH → Prop} {PX : String → Nat → GH → Prop}
/-- what was used so far -/
theorem wk_cb (hr : r ≤ b) (k : cb (b - r) G0 G → wk_V w M (d, b, P, PX, hp_cs G0, hp_ss G0) pc lv st G r) : wk_V w M (d, b, P, PX, hp_cs G0, hp_ss G0) pc lv st G r :=
  wk_have fun h1 h2 => k ⟨by have : hp_cs G + r ≤ hp_cs G0 + b := h1; omega, by have : hp_ss G + 12 * r ≤ hp_ss G0 + 12 * b := h2; omega⟩
/-- the budget comes back -/
theorem wk_up {u r' : Nat} (h : cb u G0 G) (hu : u + r' ≤ b) (k : wk_V w M (d, b, P, PX, hp_cs G0, hp_ss G0) pc lv st G r') : wk_V w M (d, b, P, PX, hp_cs G0, hp_ss G0) pc lv st G r :=
  wk_raise (by show hp_cs G + r' ≤ hp_cs G0 + b; have := h.1; omega) (by show hp_ss G + 12 * r' ≤ hp_ss G0 + 12 * b; have := h.2; omega) k
end
/-- longs of a cell that has none are free for notes: whose the cell is -/
theorem hp_at_nl {k : Nat} (h : k ≠ 31) : hp_at k ≠ .long := by
  unfold hp_at
  split
  all_goals first
    | (intro e; cases e; done)
    | exact absurd rfl h
theorem hp_ac_nl {ty : FieldType} (h : ty ≠ .long) (cA : ClassId) (n : Nat) (i : Nat → Int32) (r : Nat → Option Nat) (x y : Nat → Int64) : hp_ac cA ty n i r x = hp_ac cA ty n i r y := by
  cases ty <;> first | rfl | exact absurd rfl h
theorem hp_R.gl {w : WD} {G : GH} {H : Heap} {a k : Nat} {v : Int64} (h : hp_R w G H) (hk : hp_kd G a ≠ 31) : hp_R w (hp_sL G a k v) H := by
  refine ⟨fun b hb => ?_, h.2.1, h.2.2.1, h.2.2.2⟩
  obtain ⟨⟨c1, c2⟩, c3⟩ := h.1 b hb
  refine ⟨⟨c1, fun q => ?_⟩, c3⟩
  have c4 := c2 q
  show H[b]? = some (hp_ac (w.2.1 (hp_kd G b)) (hp_at (hp_kd G b)) (hp_ln G b) (hp_i G b) (hp_r G b) (hp_l (hp_sL G a k v) b))
  by_cases e : b = a
  · rw [hp_ac_nl (hp_at_nl (by rw [e]; exact hk)) _ _ _ _ _ (hp_l G b)]
    exact c4
  · rw [(hp_sL_ne b e).2.2.2.2]
    exact c4
theorem wk_gl {w : WD} {M : MI} {j : JB} {pc r : Nat} {lv : List (Nat × WV)} {st : List WV} {G : GH} (a k : Nat) (v : Int64) (hk : hp_kd G a ≠ 31) (kk : wk_V w M j pc lv st (hp_sL G a k v) r) : wk_V w M j pc lv st G r :=
  fun p l e s m args below meth c X H locs cells slots ls hR hS hc hs hl => kk p l e s m args below meth c X H locs cells slots ls (hR.gl hk) hS hc hs hl
/-- the cell x is u's -/
def ow (G : GH) (x u : Nat) : Prop := hp_l G x u = 1 ∧ ∀ y, hp_l G x y ≠ 0 → y = u
theorem ow.uq {G : GH} {x u v : Nat} (h : ow G x u) (h2 : ow G x v) : u = v := h2.2 u (by rw [h.1]; decide)
theorem ow.cg {G G' : GH} {x u : Nat} (h : ow G x u) (e : hp_l G' x = hp_l G x) : ow G' x u := by
  unfold ow
  rw [e]
  exact h
theorem ow.set {G : GH} {x u : Nat} (h : ∀ y, hp_l G x y = 0) : ow (hp_sL G x u 1) x u := by
  refine ⟨by rw [hp_l_sL, if_pos rfl, if_pos rfl], fun y hy => ?_⟩
  rw [hp_l_sL, if_pos rfl] at hy
  by_cases e : y = u
  · exact e
  · rw [if_neg e, h y] at hy
    exact absurd rfl hy
theorem hp_subO : ∀ k, k < 28 → hp_sub k "java/lang/Object" := by
  unfold hp_sub
  decide +kernel
