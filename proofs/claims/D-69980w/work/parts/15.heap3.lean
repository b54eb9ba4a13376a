/-! OWN LAYER, 7: new cells, statics, constants, casts, ends, throws -/
theorem hp_dv : ∀ c, c < 28 → ∀ j, j < hp_N c → defaultValue (hp_ty c j) = hp_fv (hp_ty c j) 0 none := by
  have h : ∀ c, c < 28 → ∀ j, j < hp_N c → hp_ty c j ≠ .long ∧ hp_ty c j ≠ .double := by decide +kernel
  intro c hc j hj
  obtain ⟨h1, h2⟩ := h c hc j hj
  cases e : hp_ty c j <;> first | rfl | exact absurd e h1 | exact absurd e h2
/-- 'new' by the class's entry idx: an object of kind c, of N fields in all -/
def hp_NL (own : String) (idx c N : Nat) : Prop := c ≠ 0 ∧ c < 28 ∧ Cond.classLink own idx (hp_C c) ∈ lw_all ∧ Cond.instantiable (hp_C c) N ∈ lw_all ∧ Cond.initialized (hp_C c) ∈ lw_all ∧ N = hp_sz c
section
variable {w : WD} {M : MI} {j : JB} {pc r : Nat} {lv : List (Nat × WV)} {st : List WV} {G : GH}
theorem wk_A {H : Heap} (hR : hp_R w G H) : hp_A w H.size := hR.2.1
theorem hp_R.born {H H1 : Heap} {c n : Nat} (hR : hp_R w G H) (z : H1.size = H.size + 1) (o : ∀ q : Nat, q < H.size → H1[q]? = H[q]?) {ce : Cell} (hce : H1[H.size]? = some ce) (hcz : ce.slots.size = if c < 28 then hp_sz c else n) (ha : c ≠ 0 → hp_ce w (hp_nw G H.size c n) H.size H1 ∧ c < 36) : hp_R w (hp_nw G H.size c n) H1 := by
  refine hR.upd (a := H.size) ⟨by rw [hp_cs_nw, hR.2.2.1, z], by rw [hp_ss_nw, hR.2.2.2, hp_sl_push z o hce, hcz]⟩ (by omega) (fun b _ hb => o b hb) hp_nw_ne fun h => ?_
  have e : hp_kd (hp_nw G H.size c n) H.size = c := by rw [hp_kd_nw, if_pos rfl]
  rw [e] at h ⊢
  exact ha h
theorem va_S.born {A : Nat → Prop} {H0 H H1 : Heap} {locs : List Loc} (h : va_S A H0 H locs) (z : H1.size = H.size + 1) (o : ∀ q : Nat, q < H.size → H1[q]? = H[q]?) : va_S A H0 H1 locs :=
  ⟨by have := h.1; omega, fun q h1 h2 => (o q (Nat.lt_of_lt_of_le h1 h.1)).trans (h.2.1 q h1 h2), h.2.2⟩
theorem wk_new (c N : Nat) {idx : Nat} (hn : hp_NL M.1.cls idx c N) (hr : 1 + N / 12 ≤ r) (hd : decode M.2.1 pc = .ok (.new idx, 3)) (k : ∀ q, hp_kd G q = 0 → hp_A w q → wk_V w M j (pc + 3) lv (vR (some q) :: st) (hp_nw G q c 0) (r - (1 + N / 12))) : wk_V w M j pc lv st G r := by
  intro p l e s m args below meth c9 X H locs cells slots ls hR hS hc hs hl
  obtain ⟨hx, hb, -, -, -, hown, hts, hK, -⟩ := id X
  obtain ⟨c0, c1, n1, n2, n3, n4⟩ := hn
  have hKn := hK.1 c c1
  refine W.newcK hx hb hown (hts _ n1) (hts _ n2) (hts _ n3) rfl hd (by show cells + 1 ≤ j.2.1; omega) (by show slots + N ≤ 12 * j.2.1; omega) hKn.2.1 rfl fun H1 kC hkC e1 z1 o1 => ?_
  have hN9 : kC.instanceTypes.size = N := by
    obtain ⟨c', k', f1, f2, -, -, -, f3⟩ := Cond.instantiable_spec (hts _ n2)
    cases hKn.2.1.symm.trans f1
    cases hkC.symm.trans f2
    exact f3
  have h0 : hp_kd G H.size = 0 := hR.fresh (Nat.le_refl _)
  refine k H.size h0 (wk_A hR) p l e s m args below meth c9 X H1 _ _ _ ls (hR.born z1 o1 e1 (by rw [if_pos c1, ← n4, ← hN9]; exact Array.size_map) fun _ => ⟨⟨fun _ => ?_, fun q => ?_⟩, by omega⟩) (hS.born z1 o1) (by show cells + 1 + _ ≤ j.2.1; omega) (by show slots + N + _ ≤ 12 * j.2.1; omega) hl
  · have e : hp_kd (hp_nw G H.size c 0) H.size = c := by rw [hp_kd_nw, if_pos rfl]
    rw [e]
    refine (u_born (hp_ty c) hts (hp_inA c c1) hKn hkC e1 (hp_ptA c c1)).to fun n hn => ?_
    rw [hp_i_nw, if_pos rfl, hp_r_nw, if_pos rfl]
    exact hp_dv c c1 n hn
  · rw [hp_kd_nw, if_pos rfl] at q
    omega
theorem hp_ac0 (cA : ClassId) (ty : FieldType) (n : Nat) (h : ty ≠ .float ∧ ty ≠ .double) : hp_ac cA ty n (fun _ => 0) (fun _ => none) (fun _ => 0) = arrV cA n (fun _ => defaultValue ty) := by
  cases ty <;> first | rfl | exact absurd rfl h.1 | exact absurd rfl h.2
theorem hp_born_arr {H H1 : Heap} {cA : ClassId} {c n : Nat} (hR : hp_R w G H) (z : H1.size = H.size + 1) (o : ∀ q : Nat, q < H.size → H1[q]? = H[q]?) (h28 : 28 ≤ c) (h36 : c < 36) (he : cA = w.2.1 c) (h9 : hp_at c ≠ .float ∧ hp_at c ≠ .double)
    (e1 : H1[H.size]? = some (arrV cA n (fun _ => defaultValue (hp_at c)))) : hp_R w (hp_nw G H.size c n) H1 := by
  refine hR.born z o e1 (by rw [if_neg (by omega), arrV_size]) fun _ => ⟨⟨fun q => ?_, fun _ => ?_⟩, h36⟩
  · rw [hp_kd_nw, if_pos rfl] at q; omega
  · have e : hp_kd (hp_nw G H.size c n) H.size = c := by rw [hp_kd_nw, if_pos rfl]
    have e2 : hp_i (hp_nw G H.size c n) H.size = fun _ => 0 := by funext x; rw [hp_i_nw, if_pos rfl]
    have e3 : hp_r (hp_nw G H.size c n) H.size = fun _ => none := by funext x; rw [hp_r_nw, if_pos rfl]
    have e4 : hp_l (hp_nw G H.size c n) H.size = fun _ => 0 := by funext x; rw [hp_l_nw, if_pos rfl]
    rw [e, e2, e3, e4, hp_ln_nw, if_pos rfl, hp_ac0 _ _ _ h9, e1, he]
/-- a new array of ints, booleans, bytes, longs: c its kind -/
theorem wk_newa (c : Nat) {atype : ArrayType} {n : Int32} (hty : newarray.typeOf atype = hp_at c) (h28 : 28 ≤ c ∧ c < 32) (hw : Cond.arrayClass (hp_at c) ∈ lw_all) (hn : ¬ n < 0) (hbig : n.toNatClampNeg ≤ 67108864) (hr : 1 + n.toNatClampNeg / 12 ≤ r)
    (hd : decode M.2.1 pc = .ok (.newarray atype, 2)) (k : ∀ q, hp_kd G q = 0 → hp_A w q → wk_V w M j (pc + 2) lv (vR (some q) :: st) (hp_nw G q c n.toNatClampNeg) (r - (1 + n.toNatClampNeg / 12))) : wk_V w M j pc lv (vI n :: st) G r := by
  intro p l e s m args below meth c9 X H locs cells slots ls hR hS hc hs hl
  obtain ⟨hx, hb, -, -, -, hown, hts, hK, -⟩ := id X
  have hcb : componentBytes (newarray.typeOf atype) ≤ 8 := by cases atype <;> decide
  have hbytes : n.toNatClampNeg * componentBytes (newarray.typeOf atype) ≤ 536870912 := Nat.le_trans (Nat.mul_le_mul hbig hcb) (by decide)
  have h9 : hp_at c ≠ .float ∧ hp_at c ≠ .double := by
    have : c = 28 ∨ c = 29 ∨ c = 30 ∨ c = 31 := by omega
    rcases this with rfl | rfl | rfl | rfl <;> exact ⟨by decide, by decide⟩
  refine va_newaK hx hb (by rw [hty]; exact hts _ hw) rfl hd rfl hn rfl hbytes (by show cells + 1 ≤ j.2.1; omega) (by show slots + n.toNatClampNeg ≤ 12 * j.2.1; omega) rfl fun H1 cA e1 z1 o1 hAr hNm => ?_
  have he : cA = w.2.1 c := by
    have h2 := (hK.2.1 c h28.1 (by omega)).2
    rw [hty] at hNm
    have : c = 28 ∨ c = 29 ∨ c = 30 ∨ c = 31 := by omega
    rcases this with rfl | rfl | rfl | rfl <;> exact Option.some.inj (hNm.symm.trans h2)
  rw [hty] at e1
  exact k H.size (hR.fresh (Nat.le_refl _)) (wk_A hR) p l e s m args below meth c9 X H1 _ _ _ ls (hp_born_arr hR z1 o1 h28.1 (by omega) he h9 e1) (hS.born z1 o1) (by show cells + 1 + _ ≤ j.2.1; omega) (by show slots + n.toNatClampNeg + _ ≤ 12 * j.2.1; omega) hl
/-- a new array of references -/
theorem wk_newq (c : Nat) (T : String) {idx : Nat} {n : Int32} (hty : hp_at c = .object T) (h28 : 32 ≤ c ∧ c < 36) (hw : Cond.classLink M.1.cls idx T ∈ lw_all) (hao : T ∈ hp_aoL) (hn : ¬ n < 0) (hbig : n.toNatClampNeg ≤ 67108864) (hr : 1 + n.toNatClampNeg / 12 ≤ r)
    (hd : decode M.2.1 pc = .ok (.anewarray idx, 3)) (k : ∀ q, hp_kd G q = 0 → hp_A w q → wk_V w M j (pc + 3) lv (vR (some q) :: st) (hp_nw G q c n.toNatClampNeg) (r - (1 + n.toNatClampNeg / 12))) : wk_V w M j pc lv (vI n :: st) G r := by
  intro p l e s m args below meth c9 X H locs cells slots ls hR hS hc hs hl
  obtain ⟨hx, hb, -, -, -, hown, hts, hK, -⟩ := id X
  refine W.anew hx hb hown (hts _ hw) (va_AO.use (hK.2.2.2.2.2.2.2.2.2.2.1 _ hao)) rfl hd rfl hn (by omega) (by show cells + 1 ≤ j.2.1; omega) (by show slots + n.toNatClampNeg ≤ 12 * j.2.1; omega) fun cA kA comp f1 f2 f3 f4 => ?_
  generalize hH1 : H.push ({ cls := cA, slots := Array.replicate n.toNatClampNeg .null, vm := .none } : Cell) = H1
  have z1 : H1.size = H.size + 1 := by rw [← hH1, Array.size_push]
  have e1 : H1[H.size]? = some (arrV cA n.toNatClampNeg (fun _ => .null)) := by rw [← hH1, Array.getElem?_push_size, ← arrV_new]
  have o1 : ∀ q : Nat, q < H.size → H1[q]? = H[q]? := fun q hq => by rw [← hH1, Array.getElem?_push, if_neg (Nat.ne_of_lt hq)]
  have he : cA = w.2.1 c := by
    have h2 := (hK.2.1 c (by omega) h28.2).2
    rw [hty] at h2
    obtain ⟨_, _, _, _, _, h3⟩ := h2
    exact Option.some.inj (f1.symm.trans h3)
  exact k H.size (hR.fresh (Nat.le_refl _)) (wk_A hR) p l e s m args below meth c9 X H1 _ _ _ ls (hp_born_arr hR z1 o1 (by omega) h28.2 he (by rw [hty]; exact ⟨by simp, by simp⟩) (by rw [hty]; exact e1)) (hS.born z1 o1) (by show cells + 1 + _ ≤ j.2.1; omega) (by show slots + n.toNatClampNeg + _ ≤ 12 * j.2.1; omega) hl
/-! statics and constants -/
theorem wk_getsR {C n d : String} {idx : Nat} (hq : (C, n, d) ∈ hp_stL) (hw : Cond.fieldLink M.1.cls idx C n d ∈ lw_all) (hd : decode M.2.1 pc = .ok (.getstatic idx, 3)) (k : wk_V w M j (pc + 3) lv (vR (hp_sv w C n) :: st) G r) : wk_V w M j pc lv st G r :=
  fun p l e s m args below meth c X H locs cells slots ls hR hS hc hs hl => va_gets X.1 X.2.1 (X.2.2.2.2.2.2.2.1.2.2.1 _ hq) hS X.2.2.2.2.2.1 (X.2.2.2.2.2.2.1 _ hw) (fun _ h => h) hd (k p l e s m args below meth c X H locs cells slots ls hR hS hc hs hl)
theorem wk_getsI {C n d : String} (v : Int32) {idx : Nat} (hq : (C, n, d, v) ∈ hp_siL) (hw : Cond.fieldLink M.1.cls idx C n d ∈ lw_all) (hd : decode M.2.1 pc = .ok (.getstatic idx, 3)) (k : wk_V w M j (pc + 3) lv (vI v :: st) G r) : wk_V w M j pc lv st G r :=
  fun p l e s m args below meth c X H locs cells slots ls hR hS hc hs hl => va_gets X.1 X.2.1 (X.2.2.2.2.2.2.2.1.2.2.2.1 _ hq) hS X.2.2.2.2.2.1 (X.2.2.2.2.2.2.1 _ hw) (fun _ h => h) hd (k p l e s m args below meth c X H locs cells slots ls hR hS hc hs hl)
theorem wk_getsN {C n d host : String} {idx : Nat} (hq : (C, n, d) ∈ hp_stL) (hw : (M.1.cls, idx, C, n, d, host) ∈ hp_nfL) (hd : decode M.2.1 pc = .ok (.getstatic idx, 3)) (k : wk_V w M j (pc + 3) lv (vR (hp_sv w C n) :: st) G r) : wk_V w M j pc lv st G r :=
  fun p l e s m args below meth c X H locs cells slots ls hR hS hc hs hl => va_getsN X.1 X.2.1 (X.2.2.2.2.2.2.2.1.2.2.1 _ hq) hS X.2.2.2.2.2.1 (va_Nw.use rfl (X.2.2.2.2.2.2.2.1.2.2.2.2.2.2.2.1 _ hw)) (fun _ h => h) hd (k p l e s m args below meth c X H locs cells slots ls hR hS hc hs hl)
theorem wk_ldcS {idx : Nat} (tx : String) (hq : (M.1.cls, idx, tx) ∈ hp_ldL) (hd : decode M.2.1 pc = .ok (.ldc idx, 2)) (k : wk_V w M j (pc + 2) lv (vR (some (hp_sa w tx)) :: st) G r) : wk_V w M j pc lv st G r :=
  fun p l e s m args below meth c X H locs cells slots ls hR hS hc hs hl => va_ldcS X.1 X.2.1 X.2.2.2.2.2.1 (X.2.2.2.2.2.2.2.1.2.2.2.2.1 _ hq) hd (k p l e s m args below meth c X H locs cells slots ls hR hS hc hs hl)
theorem wk_ldcwS0 {p : Program} {l : Launch} {e : Env} {R : Room} {s : State} {m : MethodId} {args : Array Value} {below : List Frame} {meth : Method} {c : Code} {T : State} {locs : List Loc} {cells slots : Nat}
    (X : Stand p l e R s m args below meth c T locs cells slots) (hexec : p.tables.exec = Jvm.exec) {own text : String} {index : Nat} {a : Addr} (hown : s.vm.findClass own = some m.cls)
    (hconst : (Cond.stringRef own index text).before args s = true) (hev : (Term.string own index).eval args s none [] s = some (.ref a)) {g : JFrame} (hg : g.method = m) (hdg : decode c.code g.pc = .ok (.ldc_w index, 3)) :
    ∀ target, Steps p.tables e below (T.setTop { g with pc := g.pc + 3, stack := .ref a :: g.stack }) target → Steps p.tables e below (T.setTop g) target := by
  obtain ⟨k, cf, i, a', hk, hcf, hcp, -, hr, hev'⟩ := Cond.stringRef_spec hown hconst
  cases hev.symm.trans hev'
  obtain ⟨k', hk', he⟩ := X.warmed.alike.2.2 _ _ hk
  have hr' : k'.resolved[index]? = some (some (.string a)) := by
    rcases X.warmed.entry hk hk' index with h | ⟨h, -⟩
    · rw [h]; exact hr
    · rw [hr] at h; cases h
  intro target hrest
  subst hg
  jvm_step X.here [hexec, hdg, ldc_w.wp_string (e := e) (s := T) (f := g) X.here.top hk' (by rw [he]; exact hcf) hcp hr']
  exact hrest
theorem wk_ldcwS {idx : Nat} (tx : String) (hq : (M.1.cls, idx, tx) ∈ hp_ldL) (hd : decode M.2.1 pc = .ok (.ldc_w idx, 3)) (k : wk_V w M j (pc + 3) lv (vR (some (hp_sa w tx)) :: st) G r) : wk_V w M j pc lv st G r := by
  intro p l e s m args below meth c X H locs cells slots ls hR hS hc hs hl T hT X9
  obtain ⟨t, a1, b1⟩ := k p l e s m args below meth c X H locs cells slots ls hR hS hc hs hl T hT X9
  have hZ := X.2.2.2.2.2.2.2.1.2.2.2.2.1 _ hq
  have hev : (Term.string M.1.cls idx).eval args s none [] s = some (.ref (hp_sa w tx)) := by
    rw [← hZ.2]
    exact Term.string_eval_of_vm rfl
  have hco : (Cond.stringRef M.1.cls idx tx).before args s = true := by first | exact hZ.1 | exact va_any rfl hZ.1
  exact ⟨t, wk_ldcwS0 X9 X.1 X.2.2.2.2.2.1 hco hev (g := F0 m pc ls (st.map wk_v)) rfl (by rw [X.2.1]; exact hd) t a1, b1⟩
/-! casts -/
theorem wk_cast {a : Nat} {T : String} {idx : Nat} (hw : Cond.classLink M.1.cls idx T ∈ lw_all) (h0 : hp_kd G a ≠ 0) (h28 : hp_kd G a < 28) (hsub : hp_sub (hp_kd G a) T) (hd : decode M.2.1 pc = .ok (.checkcast idx, 3)) (k : wk_V w M j (pc + 3) lv (vR (some a) :: st) G r) : wk_V w M j pc lv (vR (some a) :: st) G r := by
  intro p l e s m args below meth c X H locs cells slots ls hR hS hc hs hl
  have hK := X.2.2.2.2.2.2.2.1
  obtain ⟨cell, g1, g2, g3, -⟩ := hp_ref hR hK h0 h28
  have hr : ∃ cell : Cell, H[a]? = some cell ∧ cell.vm.isStatics = false ∧ s.vm.findClass (hp_C (hp_kd G a)) = some cell.cls := ⟨cell, g1, by rw [g2]; rfl, g3⟩
  rcases hsub with e1 | e1
  · rw [e1] at hr
    exact va_castS X.1 X.2.1 X.2.2.2.2.2.1 (X.2.2.2.2.2.2.1 _ hw) (by rw [← e1]; exact (hK.1 _ h28).2) hr hd (k p l e s m args below meth c X H locs cells slots ls hR hS hc hs hl)
  · exact va_castY X.1 X.2.1 X.2.2.2.2.2.1 (X.2.2.2.2.2.2.1 _ hw) (hK.2.2.2.2.2.1 _ e1) hr hd (k p l e s m args below meth c X H locs cells slots ls hR hS hc hs hl)
theorem wk_castN {idx : Nat} (hd : decode M.2.1 pc = .ok (.checkcast idx, 3)) (k : wk_V w M j (pc + 3) lv (vR none :: st) G r) : wk_V w M j pc lv (vR none :: st) G r :=
  fun p l e s m args below meth c X H locs cells slots ls hR hS hc hs hl => lv_castN X.1 X.2.1 hd (k p l e s m args below meth c X H locs cells slots ls hR hS hc hs hl)
theorem wk_inst {a : Nat} {T : String} {idx : Nat} (hw : Cond.classLink M.1.cls idx T ∈ lw_all) (h0 : hp_kd G a ≠ 0) (h28 : hp_kd G a < 28) (hsub : hp_sub (hp_kd G a) T) (hd : decode M.2.1 pc = .ok (.instanceof idx, 3)) (k : wk_V w M j (pc + 3) lv (vI 1 :: st) G r) : wk_V w M j pc lv (vR (some a) :: st) G r := by
  intro p l e s m args below meth c X H locs cells slots ls hR hS hc hs hl
  have hK := X.2.2.2.2.2.2.2.1
  obtain ⟨cell, g1, g2, g3, -⟩ := hp_ref hR hK h0 h28
  have hr : ∃ cell : Cell, H[a]? = some cell ∧ cell.vm.isStatics = false ∧ s.vm.findClass (hp_C (hp_kd G a)) = some cell.cls := ⟨cell, g1, by rw [g2]; rfl, g3⟩
  rcases hsub with e1 | e1
  · rw [e1] at hr
    exact va_instS X.1 X.2.1 X.2.2.2.2.2.1 (X.2.2.2.2.2.2.1 _ hw) (by rw [← e1]; exact (hK.1 _ h28).2) hr hd (k p l e s m args below meth c X H locs cells slots ls hR hS hc hs hl)
  · exact va_instY X.1 X.2.1 X.2.2.2.2.2.1 (X.2.2.2.2.2.2.1 _ hw) (hK.2.2.2.2.2.1 _ e1) hr hd (k p l e s m args below meth c X H locs cells slots ls hR hS hc hs hl)
theorem wk_instNo {a : Nat} {T : String} {idx : Nat} (hw : Cond.classLink M.1.cls idx T ∈ lw_all) (h0 : hp_kd G a ≠ 0) (h28 : hp_kd G a < 28) (hsub : (hp_C (hp_kd G a), T) ∈ hp_ncL) (hd : decode M.2.1 pc = .ok (.instanceof idx, 3)) (k : wk_V w M j (pc + 3) lv (vI 0 :: st) G r) : wk_V w M j pc lv (vR (some a) :: st) G r := by
  intro p l e s m args below meth c X H locs cells slots ls hR hS hc hs hl
  have hK := X.2.2.2.2.2.2.2.1
  obtain ⟨cell, g1, g2, g3, -⟩ := hp_ref hR hK h0 h28
  have hr : ∃ cell : Cell, H[a]? = some cell ∧ cell.vm.isStatics = false ∧ s.vm.findClass (hp_C (hp_kd G a)) = some cell.cls := ⟨cell, g1, by rw [g2]; rfl, g3⟩
  exact va_instNo X.1 X.2.1 X.2.2.2.2.2.1 (X.2.2.2.2.2.2.1 _ hw) (hK.2.2.2.2.2.2.1 _ hsub) hr hd (k p l e s m args below meth c X H locs cells slots ls hR hS hc hs hl)
theorem wk_instN {idx : Nat} (hd : decode M.2.1 pc = .ok (.instanceof idx, 3)) (k : wk_V w M j (pc + 3) lv (vI 0 :: st) G r) : wk_V w M j pc lv (vR none :: st) G r :=
  fun p l e s m args below meth c X H locs cells slots ls hR hS hc hs hl => lv_instN X.1 X.2.1 hd (k p l e s m args below meth c X H locs cells slots ls hR hS hc hs hl)
/-! ends -/
theorem wk_end {p : Program} {l : Launch} {e : Env} {s : State} {m : MethodId} {args : Array Value} {below : List Frame} {meth : Method} {c : Code} {H : Heap} {locs : List Loc} {cells slots : Nat} {g : JFrame} (hc : cells + r ≤ j.2.1) (hs : slots + 12 * r ≤ 12 * j.2.1)
    (k : W p l e (wk_rm j.1 j.2.1) s m args below meth c H locs j.2.1 (12 * j.2.1) (MQ below (wk_Q w j.2.2.1) args s j.2.1 (12 * j.2.1) (hp_A w)) g) : W p l e (wk_rm j.1 j.2.1) s m args below meth c H locs cells slots (vx_MQ below (wk_Q w j.2.2.1) (wk_X w j.2.2.2.1) args s j.2.1 (12 * j.2.1) (hp_A w)) g :=
  vx_ret (W.widen (by omega) (by omega) k)
theorem wk_ireturn {x : Int32} {ty : FieldType} (hret : M.2.2.2.1 = some ty) (hn : narrow ty (.int x) = .int x) (hd : decode M.2.1 pc = .ok (.ireturn, 1)) (hP : j.2.2.1 (some (vI x)) G) : wk_V w M j pc lv [vI x] G r :=
  fun p l e s m args below meth c X H locs cells slots ls hR hS hc hs hl => wk_end hc hs (W.zret (v := x) X.1 X.2.1 (X.2.2.2.1.trans hret) hn (fun t ht hW => ⟨some (vI x), G, rfl, hP, by rw [ht]; exact hR, hS.F ht⟩) hS.2.2 hd X.2.2.2.2.1)
theorem wk_lreturn {x : Int64} (hret : M.2.2.2.1 = some .long) (hd : decode M.2.1 pc = .ok (.lreturn, 1)) (hP : j.2.2.1 (some (vL x)) G) : wk_V w M j pc lv [vL x] G r :=
  fun p l e s m args below meth c X H locs cells slots ls hR hS hc hs hl => wk_end hc hs (W.lret (v := x) X.1 X.2.1 (X.2.2.2.1.trans hret) (fun t ht hW => ⟨some (vL x), G, rfl, hP, by rw [ht]; exact hR, hS.F ht⟩) hS.2.2 hd X.2.2.2.2.1)
theorem wk_areturn {x : Option Nat} {ty : FieldType} (hret : M.2.2.2.1 = some ty) (hty : (∃ n, ty = .object n) ∨ ∃ t, ty = .array t) (hd : decode M.2.1 pc = .ok (.areturn, 1)) (hP : j.2.2.1 (some (vR x)) G) : wk_V w M j pc lv [vR x] G r :=
  fun p l e s m args below meth c X H locs cells slots ls hR hS hc hs hl => wk_end hc hs (W.aret (v := va_rf x) X.1 X.2.1 (X.2.2.2.1.trans hret) hty (by cases x with | none => exact Or.inl rfl | some a => exact Or.inr ⟨a, rfl⟩) (fun t ht hW => ⟨some (vR x), G, rfl, hP, by rw [ht]; exact hR, hS.F ht⟩) hS.2.2 hd X.2.2.2.2.1)
theorem wk_return (hret : M.2.2.2.1 = none) (hd : decode M.2.1 pc = .ok (.return_, 1)) (hP : j.2.2.1 none G) : wk_V w M j pc lv [] G r :=
  fun p l e s m args below meth c X H locs cells slots ls hR hS hc hs hl => wk_end hc hs (W.vret X.1 X.2.1 (X.2.2.2.1.trans hret) (fun t ht hW => ⟨none, G, rfl, hP, by rw [ht]; exact hR, hS.F ht⟩) hS.2.2 hd X.2.2.2.2.1)
/-! throws -/
theorem wk_athrow {a : Nat} (h0 : hp_kd G a ≠ 0) (h28 : hp_kd G a < 28) (hd : decode M.2.1 pc = .ok (.athrow, 1)) (k : wk_T w M j pc lv G r (hp_C (hp_kd G a)) a) : wk_V w M j pc lv (vR (some a) :: st) G r := by
  intro p l e s m args below meth c X H locs cells slots ls hR hS hc hs hl
  obtain ⟨cell, g1, g2, g3, -⟩ := hp_ref hR X.2.2.2.2.2.2.2.1 h0 h28
  exact vx_athrow X.1 X.2.1 hd (k p l e s m args below meth c X H locs cells slots ls _ cell hR hS hc hs hl g1 g2 g3)
theorem wk_out {E : String} {q : Nat} (hout : ∀ x ∈ tableOf M.2.2.2.2, covers x pc = false) (hP : j.2.2.2.1 E q G) : wk_T w M j pc lv G r E q :=
  fun p l e s m args below meth c X H locs cells slots ls st ce hR hS hc hs hl h1 h2 h3 => vx_out (by rw [X.2.2.2.2.2.2.2.2.1]; exact hout) X.2.2.2.2.1 h1 h2 h3 (fun t ht _ => ⟨G, hP, by rw [ht]; exact hR, hS.F ht⟩) hS.2.2 (by omega) (by omega)
theorem wk_out0 {E : String} {q : Nat} (hh : M.2.2.2.2 = []) (hP : j.2.2.2.1 E q G) : wk_T w M j pc lv G r E q :=
  wk_out (by rw [hh]; intro x hx; cases hx) hP
/-- caught by the row x of the table, past the rows pre that name other classes -/
theorem wk_catch {E T : String} {q : Nat} (pre : List (Nat × Nat × Nat × Nat)) (x : Nat × Nat × Nat × Nat) (suf : List (Nat × Nat × Nat × Nat)) (hsplit : M.2.2.2.2 = pre ++ x :: suf)
    (hpass : ∀ z ∈ pre, covers ⟨z.1, z.2.1, z.2.2.1, z.2.2.2⟩ pc = false ∨ (z.2.2.2 ≠ 0 ∧ ∃ nm : String, Cond.classLink M.1.cls z.2.2.2 nm ∈ lw_all ∧ (E, nm) ∈ hp_ncL)) (hx : covers ⟨x.1, x.2.1, x.2.2.1, x.2.2.2⟩ pc = true) (h0 : x.2.2.2 ≠ 0)
    (hw : Cond.classLink M.1.cls x.2.2.2 T ∈ lw_all) (hsub : (E, T) ∈ hp_caL) (k : wk_V w M j x.2.2.1 lv [vR (some q)] G r) : wk_T w M j pc lv G r E q := by
  intro p l e s m args below meth c X H locs cells slots ls st ce hR hS hc hs hl h1 h2 h3
  have hK := X.2.2.2.2.2.2.2.1
  refine vx_catch (own := M.1.cls) (name := T) X.2.2.2.2.2.1 (tableOf pre) ⟨x.1, x.2.1, x.2.2.1, x.2.2.2⟩ (tableOf suf) (by rw [X.2.2.2.2.2.2.2.2.1, hsplit]; simp [tableOf]) ?_ hx h0 (X.2.2.2.2.2.2.1 _ hw) (va_Nw.use rfl (hK.2.2.2.2.2.1 _ hsub)) h1 h2 h3 (k p l e s m args below meth c X H locs cells slots ls hR hS hc hs hl)
  intro z hz
  obtain ⟨y, hy, rfl⟩ := List.mem_map.mp hz
  rcases hpass y hy with h | ⟨h, nm, h4, h5⟩
  · exact Or.inl h
  · exact Or.inr ⟨h, nm, X.2.2.2.2.2.2.1 _ h4, hK.2.2.2.2.2.2.1 _ h5⟩
end
