/-! OWN LAYER, 3: locals; entry and ends -/
def wk_get : List (Nat × WV) → Nat → Option WV
  | [], _ => none
  | q :: t, i => bif Nat.beq q.1 i then some q.2 else wk_get t i
def wk_ins : List (Nat × WV) → Nat → WV → List (Nat × WV)
  | [], i, v => [(i, v)]
  | q :: t, i, v => bif Nat.blt i q.1 then (i, v) :: q :: t else q :: wk_ins t i v
def wk_fl : List (Nat × WV) → Nat → List (Nat × WV)
  | [], _ => []
  | q :: t, i => bif (Nat.beq q.1 i || (Nat.beq (q.1 + 1) i && wk_c2 q.2)) then wk_fl t i else q :: wk_fl t i
def wk_fl2 : List (Nat × WV) → Nat → List (Nat × WV)
  | [], _ => []
  | q :: t, i => bif (Nat.beq q.1 i || Nat.beq q.1 (i + 1) || (Nat.beq (q.1 + 1) i && wk_c2 q.2)) then wk_fl2 t i else q :: wk_fl2 t i
def wk_set (l : List (Nat × WV)) (i : Nat) (v : WV) : List (Nat × WV) := wk_ins (wk_fl l i) i v
def wk_set2 (l : List (Nat × WV)) (i : Nat) (v : WV) : List (Nat × WV) := wk_ins (wk_fl2 l i) i v
theorem wk_get_mem : ∀ (l : List (Nat × WV)) (i : Nat) (v : WV), wk_get l i = some v → (i, v) ∈ l
  | q :: t, i, v, h => by
    simp only [wk_get] at h
    cases e : Nat.beq q.1 i with
    | true =>
      rw [e] at h
      have e1 : q.1 = i := Nat.eq_of_beq_eq_true e
      have e2 : q.2 = v := Option.some.inj h
      rw [← e1, ← e2]
      exact List.mem_cons_self
    | false =>
      rw [e] at h
      exact List.mem_cons_of_mem _ (wk_get_mem t i v h)
theorem wk_ins_mem : ∀ (l : List (Nat × WV)) (i : Nat) (v : WV) (x : Nat × WV), x ∈ wk_ins l i v → x = (i, v) ∨ x ∈ l
  | [], i, v, x, h => Or.inl (List.mem_singleton.mp h)
  | q :: t, i, v, x, h => by
    simp only [wk_ins] at h
    cases e : Nat.blt i q.1 with
    | true =>
      rw [e] at h
      exact List.mem_cons.mp h
    | false =>
      rw [e] at h
      rcases List.mem_cons.mp h with h | h
      · exact Or.inr (by rw [h]; exact List.mem_cons_self)
      · exact (wk_ins_mem t i v x h).imp id (List.mem_cons_of_mem _)
theorem wk_fl_mem : ∀ (l : List (Nat × WV)) (i : Nat) (x : Nat × WV), x ∈ wk_fl l i → x ∈ l ∧ (Nat.beq x.1 i || (Nat.beq (x.1 + 1) i && wk_c2 x.2)) = false
  | [], i, x, h => by cases h
  | q :: t, i, x, h => by
    simp only [wk_fl] at h
    cases e : (Nat.beq q.1 i || (Nat.beq (q.1 + 1) i && wk_c2 q.2)) with
    | true =>
      rw [e] at h
      exact ⟨List.mem_cons_of_mem _ (wk_fl_mem t i x h).1, (wk_fl_mem t i x h).2⟩
    | false =>
      rw [e] at h
      rcases List.mem_cons.mp h with h | h
      · rw [h]; exact ⟨List.mem_cons_self, e⟩
      · exact ⟨List.mem_cons_of_mem _ (wk_fl_mem t i x h).1, (wk_fl_mem t i x h).2⟩
theorem wk_fl2_mem : ∀ (l : List (Nat × WV)) (i : Nat) (x : Nat × WV), x ∈ wk_fl2 l i → x ∈ l ∧ (Nat.beq x.1 i || Nat.beq x.1 (i + 1) || (Nat.beq (x.1 + 1) i && wk_c2 x.2)) = false
  | [], i, x, h => by cases h
  | q :: t, i, x, h => by
    simp only [wk_fl2] at h
    cases e : (Nat.beq q.1 i || Nat.beq q.1 (i + 1) || (Nat.beq (q.1 + 1) i && wk_c2 q.2)) with
    | true =>
      rw [e] at h
      exact ⟨List.mem_cons_of_mem _ (wk_fl2_mem t i x h).1, (wk_fl2_mem t i x h).2⟩
    | false =>
      rw [e] at h
      rcases List.mem_cons.mp h with h | h
      · rw [h]; exact ⟨List.mem_cons_self, e⟩
      · exact ⟨List.mem_cons_of_mem _ (wk_fl2_mem t i x h).1, (wk_fl2_mem t i x h).2⟩
theorem wk_has_get {ls : Array Slot} {n : Nat} {lv : List (Nat × WV)} (h : lv_has ls n (wk_lv lv)) {i : Nat} {v : WV} (hg : wk_get lv i = some v) : ls[i]? = some (.val (wk_v v)) :=
  h.2.2 (i, wk_v v) (List.mem_map.mpr ⟨(i, v), wk_get_mem lv i v hg, rfl⟩)
theorem wk_c2_cat (v : WV) : ((wk_v v).category == 2) = wk_c2 v := by
  rw [wk_cat]
  cases wk_c2 v <;> rfl
theorem wk_beq (a b : Nat) : Nat.beq a b = (a == b) := by
  cases e : Nat.beq a b with
  | true =>
    have h := Nat.eq_of_beq_eq_true e
    subst h
    simp
  | false =>
    have h := Nat.ne_of_beq_eq_false e
    simp [h]
theorem wk_has_set {ls : Array Slot} {n : Nat} {lv : List (Nat × WV)} {i : Nat} {v : WV} (h : lv_has ls n ((i, wk_v v) :: (wk_lv lv).filter (fun q => !(q.1 == i) && !(q.1 + 1 == i && q.2.category == 2)))) : lv_has ls n (wk_lv (wk_set lv i v)) := by
  refine ⟨h.1, h.2.1, fun q hq => h.2.2 q ?_⟩
  obtain ⟨x, hx, rfl⟩ := List.mem_map.mp hq
  rcases wk_ins_mem _ _ _ _ hx with rfl | hx
  · exact List.mem_cons_self
  · obtain ⟨h1, h2⟩ := wk_fl_mem _ _ _ hx
    refine List.mem_cons_of_mem _ (List.mem_filter.mpr ⟨List.mem_map.mpr ⟨x, h1, rfl⟩, ?_⟩)
    show (!(x.1 == i) && !(x.1 + 1 == i && (wk_v x.2).category == 2)) = true
    rw [wk_c2_cat]
    have h3 : ((x.1 == i) || ((x.1 + 1 == i) && wk_c2 x.2)) = false := by rw [← wk_beq, ← wk_beq]; exact h2
    cases e1 : (x.1 == i) <;> cases e2 : ((x.1 + 1 == i) && wk_c2 x.2) <;> simp_all
theorem wk_has_set2 {ls : Array Slot} {n : Nat} {lv : List (Nat × WV)} {i : Nat} {v : WV} (h : lv_has ls n ((i, wk_v v) :: (wk_lv lv).filter (fun q => !(q.1 == i) && (!(q.1 == i + 1) && !(q.1 + 1 == i && q.2.category == 2))))) : lv_has ls n (wk_lv (wk_set2 lv i v)) := by
  refine ⟨h.1, h.2.1, fun q hq => h.2.2 q ?_⟩
  obtain ⟨x, hx, rfl⟩ := List.mem_map.mp hq
  rcases wk_ins_mem _ _ _ _ hx with rfl | hx
  · exact List.mem_cons_self
  · obtain ⟨h1, h2⟩ := wk_fl2_mem _ _ _ hx
    refine List.mem_cons_of_mem _ (List.mem_filter.mpr ⟨List.mem_map.mpr ⟨x, h1, rfl⟩, ?_⟩)
    show (!(x.1 == i) && (!(x.1 == i + 1) && !(x.1 + 1 == i && (wk_v x.2).category == 2))) = true
    rw [wk_c2_cat]
    have h3 : ((x.1 == i) || (x.1 == i + 1) || ((x.1 + 1 == i) && wk_c2 x.2)) = false := by rw [← wk_beq, ← wk_beq, ← wk_beq]; exact h2
    cases e1 : (x.1 == i) <;> cases e3 : (x.1 == i + 1) <;> cases e2 : ((x.1 + 1 == i) && wk_c2 x.2) <;> simp_all
/-- fewer locals -/
theorem wk_has_sub {ls : Array Slot} {n : Nat} {lv lv' : List (Nat × WV)} (h : lv_has ls n (wk_lv lv)) (hs : ∀ q ∈ lv', q ∈ lv) : lv_has ls n (wk_lv lv') :=
  ⟨h.1, h.2.1, fun q hq => by
    obtain ⟨x, hx, rfl⟩ := List.mem_map.mp hq
    exact h.2.2 _ (List.mem_map.mpr ⟨x, hs x hx, rfl⟩)⟩
/-- each listed local is had: by evaluation where the values are written alike -/
def wk_sb (lv : List (Nat × WV)) : List (Nat × WV) → Prop
  | [] => True
  | q :: t => wk_get lv q.1 = some q.2 ∧ wk_sb lv t
theorem wk_sb_sub {lv : List (Nat × WV)} : ∀ {l : List (Nat × WV)}, wk_sb lv l → ∀ q ∈ l, q ∈ lv
  | q :: t, h, x, hx => by
    rcases List.mem_cons.mp hx with rfl | hx
    · exact wk_get_mem _ _ _ h.1
    · exact wk_sb_sub h.2 x hx
def wk_args : Nat → List WV → List (Nat × WV)
  | _, [] => []
  | i, v :: vs => (i, v) :: wk_args (bif wk_c2 v then i + 2 else i + 1) vs
theorem wk_args_eq : ∀ (vs : List WV) (i : Nat), lv_args i (vs.map wk_v) = wk_lv (wk_args i vs)
  | [], _ => rfl
  | v :: vs, i => by
    simp only [List.map_cons, lv_args, wk_args, wk_lv]
    rw [wk_args_eq vs]
    simp only [wk_lv]
    congr 3
    rw [wk_cat]
    cases wk_c2 v <;> rfl
section
variable {w : WD} {M : MI} {j : JB} {pc r : Nat} {lv : List (Nat × WV)} {st : List WV} {G : GH}
theorem wk_sub (lv' : List (Nat × WV)) (hs : wk_sb lv lv') (k : wk_V w M j pc lv' st G r) : wk_V w M j pc lv st G r :=
  fun p l e s m args below meth c X H locs cells slots ls hR hS hc hs' hl => k p l e s m args below meth c X H locs cells slots ls hR hS hc hs' (wk_has_sub hl (wk_sb_sub hs))
/-- less of the budget -/
theorem wk_less {r' : Nat} (h : r' ≤ r) (k : wk_V w M j pc lv st G r') : wk_V w M j pc lv st G r :=
  fun p l e s m args below meth c X H locs cells slots ls hR hS hc hs hl => k p l e s m args below meth c X H locs cells slots ls hR hS (by omega) (by omega) hl
/-- the budget as the heap's own size has it: what a callee did not use comes back -/
theorem wk_raise {r' : Nat} (h1 : hp_cs G + r' ≤ j.2.2.2.2.1 + j.2.1) (h2 : hp_ss G + 12 * r' ≤ j.2.2.2.2.2 + 12 * j.2.1) (k : wk_V w M j pc lv st G r') : wk_V w M j pc lv st G r := by
  intro p l e s m args below meth c X H locs cells slots ls hR hS hc hs hl T hT X9
  obtain ⟨-, -, -, -, -, -, -, -, -, -, -, e1, e2⟩ := id X
  have h3 := hR.2.2.1
  have h4 := hR.2.2.2
  have hsm := X9.same
  have h50 := hp_sl_same hsm
  have h5 : hp_sl T.heap = hp_sl s.heap + ((T.heap.toList.drop s.heap.size).map (·.slots.size)).sum := h50
  have h6 : s.heap.size ≤ T.heap.size := hsm.2.1
  rw [hT] at h5 h6
  refine k p l e s m args below meth c X H locs (j.2.1 - r') (12 * j.2.1 - 12 * r') ls hR hS (by omega) (by omega) hl T hT { X9 with same := ?_ }
  obtain ⟨g1, g2, g3, g4, g5, g6⟩ := hsm
  refine ⟨g1, g2, ?_, g4, ?_, g6⟩
  · show T.heap.size ≤ _
    rw [hT]
    omega
  · show ((T.heap.toList.drop s.heap.size).map (·.slots.size)).sum ≤ _
    rw [hT]
    omega
/-- what the budget says of the heap's size -/
theorem wk_have (k : hp_cs G + r ≤ j.2.2.2.2.1 + j.2.1 → hp_ss G + 12 * r ≤ j.2.2.2.2.2 + 12 * j.2.1 → wk_V w M j pc lv st G r) : wk_V w M j pc lv st G r := by
  intro p l e s m args below meth c X H locs cells slots ls hR hS hc hs hl T hT X9
  obtain ⟨-, -, -, -, -, -, -, -, -, -, -, e1, e2⟩ := id X
  have h3 := hR.2.2.1
  have h4 := hR.2.2.2
  have hsm := X9.same
  have h50 := hp_sl_same hsm
  have h5 : hp_sl T.heap = hp_sl s.heap + ((T.heap.toList.drop s.heap.size).map (·.slots.size)).sum := h50
  have h6 : T.heap.size ≤ s.heap.size + cells := hsm.2.2.1
  have h7 : ((T.heap.toList.drop s.heap.size).map (·.slots.size)).sum ≤ slots := hsm.2.2.2.2.1
  rw [hT] at h5 h6 h7
  exact k (by omega) (by omega) p l e s m args below meth c X H locs cells slots ls hR hS hc hs hl T hT X9
/-- the known cells lie below the heap's end -/
theorem wk_below (k : (∀ a, hp_kd G a ≠ 0 → a < hp_cs G) → wk_V w M j pc lv st G r) : wk_V w M j pc lv st G r :=
  fun p l e s m args below meth c X H locs cells slots ls hR hS hc hs hl => k (fun a ha => by rw [hR.2.2.1]; exact hR.lt ha) p l e s m args below meth c X H locs cells slots ls hR hS hc hs hl
/-- the contract of a method without handlers, from the walk of its body -/
theorem wk_C_of {d b : Nat} {As : List WV} {P : Option WV → GH → Prop} {PX : String → Nat → GH → Prop} (hy : plainName M.1.cls = true) (hh : M.2.2.2.2 = []) (hn : (lg_sl (As.map wk_v)).length ≤ M.2.2.1)
    (k : wk_V w M (d, b, P, PX, hp_cs G, hp_ss G) 0 (wk_args 0 As) [] G b) : wk_C w M d b As G P PX := by
  obtain ⟨y, cc, nL, ret, hd⟩ := M
  have hh' : hd = [] := hh
  subst hh'
  intro l hl0
  refine vx_ofW (cc := cc) (maxL := nL) (ret := ret) hy rfl ?_
  intro p e s m args below meth c s₁ B hml htab hv
  obtain ⟨rfl, hR, hK⟩ := hv
  have hts := atoms_spec (ws := wk_hd (y, cc, nL, ret, []) :: lw_all) B.pre
  have hown : s.vm.findClass y.cls = some m.cls := findClass_of_methodNamed B.named
  rw [lg_entry_eq]
  have hl := lv_entry (As.map wk_v) (n := nL) hn
  rw [wk_args_eq] at hl
  have htab' : c.exceptionTable.toList = tableOf [] := by
    cases e : c.exceptionTable.toList with
    | nil => rfl
    | cons x t => exact absurd (htab x (by rw [e]; exact List.mem_cons_self)) id
  refine k p l e s m _ below meth c ⟨B.exec, B.bytes, hml, B.returns, B.notSynchronized, hown, fun w h => hts w (List.mem_cons_of_mem _ h), hK, htab', (name_of_methodNamed B.named B.method).1, hl0, hR.2.2.1.symm, hR.2.2.2.symm⟩ s.heap [] 0 0 _ hR va_S.rf (by show 0 + b ≤ b; omega) (by show 0 + 12 * b ≤ 12 * b; omega) hl
/-- the same of a method with handlers -/
theorem wk_C_ofH {d b : Nat} {As : List WV} {P : Option WV → GH → Prop} {PX : String → Nat → GH → Prop} (hy : plainName M.1.cls = true) (hh : wk_hd M = .codeWith M.1 M.2.1 M.2.2.1 M.2.2.2.1 M.2.2.2.2) (hn : (lg_sl (As.map wk_v)).length ≤ M.2.2.1)
    (k : wk_V w M (d, b, P, PX, hp_cs G, hp_ss G) 0 (wk_args 0 As) [] G b) : wk_C w M d b As G P PX := by
  obtain ⟨y, cc, nL, ret, hd⟩ := M
  intro l hl0
  refine vx_ofWH (cc := cc) (maxL := nL) (ret := ret) (hh := hd) hy (by rw [hh]) ?_
  intro p e s m args below meth c s₁ B hml hv
  obtain ⟨rfl, hR, hK⟩ := hv
  have hts := atoms_spec (ws := wk_hd (y, cc, nL, ret, hd) :: lw_all) B.pre
  have hown : s.vm.findClass y.cls = some m.cls := findClass_of_methodNamed B.named
  rw [lg_entry_eq]
  have hl := lv_entry (As.map wk_v) (n := nL) hn
  rw [wk_args_eq] at hl
  have htab := hts _ List.mem_cons_self
  rw [hh] at htab
  refine k p l e s m _ below meth c ⟨B.exec, B.bytes, hml, B.returns, B.notSynchronized, hown, fun w h => hts w (List.mem_cons_of_mem _ h), hK, vx_table (x := y) B htab, (name_of_methodNamed B.named B.method).1, hl0, hR.2.2.1.symm, hR.2.2.2.symm⟩ s.heap [] 0 0 _ hR va_S.rf (by show 0 + b ≤ b; omega) (by show 0 + 12 * b ≤ 12 * b; omega) hl
end
