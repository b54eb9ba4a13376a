/-! OWN LAYER, 11: getClass, class constants, clone, a float field, throws of the JDK's exceptions -/
theorem hp_R.kept {w : WD} {G : GH} {H H' : Heap} (h : hp_R w G H) (hsz : H.size ≤ H'.size) (ho : ∀ b : Nat, b < H.size → H'[b]? = H[b]?) : hp_R w (hp_cn G H'.size (hp_sl H')) H' := by
  refine ⟨fun b hb => ?_, Nat.le_trans h.2.1 hsz, rfl, rfl⟩
  obtain ⟨⟨c1, c2⟩, c3⟩ := h.1 b hb
  have hlt := h.lt hb
  exact ⟨⟨fun q => (c1 q).kept (ho b hlt), fun q => by rw [ho b hlt]; exact c2 q⟩, c3⟩
section
variable {w : WD} {M : MI} {j : JB} {pc r : Nat} {lv : List (Nat × WV)} {st : List WV} {G : GH}
abbrev wk_gC : MethodName := ⟨"java/lang/Object", "getClass", "()Ljava/lang/Class;"⟩
theorem wk_getC0 {C : String} {a idx : Nat} (hM : C ∈ hp_miL) (hD : wk_gC ∈ hp_dcL) (h1 : Cond.methodLink M.1.cls idx wk_gC ∈ lw_all) (h2 : Cond.selects C wk_gC wk_gC ∈ lw_all) (h3 : Cond.instanceMethod wk_gC ∈ lw_all) (h4 : Cond.native wk_gC ∈ lw_all)
    (hr : ∀ (H : Heap) (s : State), hp_R w G H → hp_K w s → ∃ cell : Cell, H[a]? = some cell ∧ cell.vm.isStatics = false ∧ s.vm.findClass C = some cell.cls) (hcat : wk_ct st ≤ 8) (hdp : 1 ≤ j.1)
    (hd : decode M.2.1 pc = .ok (.invokevirtual idx, 3)) (k : wk_V w M j (pc + 3) lv (vR (some (hp_mi w C)) :: st) G r) : wk_V w M j pc lv (vR (some a) :: st) G r := by
  intro p l e s m args below meth c X H locs cells slots ls hR hS hc hs hl
  obtain ⟨hx, hb, hml, -, -, hown, hts, hK, -⟩ := id X
  exact va_getC hx hb (by rw [hml]; exact hl.1.symm) hown (hts _ h1) (va_Nw.use rfl (hK.2.2.2.2.2.2.2.2.2.2.2.1 _ hD)) (hts _ h2) (hts _ h3) (hts _ h4) (hK.2.2.2.2.2.2.2.2.2.2.2.2.1 _ hM) (hr H s hR hK) (by show 1 ≤ j.1; exact hdp) (by show _ + 14 ≤ 50 * j.1; rw [wk_ct_eq]; omega) hd (k p l e s m args below meth c X H locs cells slots ls hR hS hc hs hl)
theorem wk_getCS {a idx : Nat} (hk : hp_kd G a = 26) (h1 : Cond.methodLink M.1.cls idx wk_gC ∈ lw_all) (h2 : Cond.selects "java/lang/String" wk_gC wk_gC ∈ lw_all) (h3 : Cond.instanceMethod wk_gC ∈ lw_all) (h4 : Cond.native wk_gC ∈ lw_all) (hcat : wk_ct st ≤ 8) (hdp : 1 ≤ j.1)
    (hd : decode M.2.1 pc = .ok (.invokevirtual idx, 3)) (k : wk_V w M j (pc + 3) lv (vR (some (hp_mi w "java/lang/String")) :: st) G r) : wk_V w M j pc lv (vR (some a) :: st) G r :=
  wk_getC0 (C := "java/lang/String") (by decide) (by decide +kernel) h1 h2 h3 h4 (fun H s hR hK => by
    obtain ⟨cell, g1, g2, g3, -⟩ := hp_ref hR hK (a := a) (by rw [hk]; decide) (by rw [hk]; decide)
    rw [hk] at g3
    exact ⟨cell, g1, by rw [g2]; rfl, g3⟩) hcat hdp hd k
theorem wk_getCA {a idx : Nat} (hk : hp_kd G a = 32) (h1 : Cond.methodLink M.1.cls idx wk_gC ∈ lw_all) (h2 : Cond.selects "[Ljava/lang/Object;" wk_gC wk_gC ∈ lw_all) (h3 : Cond.instanceMethod wk_gC ∈ lw_all) (h4 : Cond.native wk_gC ∈ lw_all) (hcat : wk_ct st ≤ 8) (hdp : 1 ≤ j.1)
    (hd : decode M.2.1 pc = .ok (.invokevirtual idx, 3)) (k : wk_V w M j (pc + 3) lv (vR (some (hp_mi w "[Ljava/lang/Object;")) :: st) G r) : wk_V w M j pc lv (vR (some a) :: st) G r :=
  wk_getC0 (C := "[Ljava/lang/Object;") (by decide) (by decide +kernel) h1 h2 h3 h4 (fun H s hR hK => by
    obtain ⟨g1, -, g3⟩ := hp_arr (s := s) hR hK (a := a) (by rw [hk]; decide)
    rw [hk] at g1 g3
    obtain ⟨_, _, _, _, _, g4⟩ := g3
    exact ⟨_, g1, rfl, g4⟩) hcat hdp hd k
theorem wk_ldcC {C : String} {idx : Nat} (hM : C ∈ hp_miL) (h1 : Cond.classLink M.1.cls idx C ∈ lw_all) (hd : decode M.2.1 pc = .ok (.ldc idx, 2)) (k : wk_V w M j (pc + 2) lv (vR (some (hp_mi w C)) :: st) G r) : wk_V w M j pc lv st G r :=
  fun p l e s m args below meth c X H locs cells slots ls hR hS hc hs hl => va_ldcM X.1 X.2.1 X.2.2.2.2.2.1 (X.2.2.2.2.2.2.1 _ h1) (X.2.2.2.2.2.2.2.1.2.2.2.2.2.2.2.2.2.2.2.2.1 _ hM) hd (k p l e s m args below meth c X H locs cells slots ls hR hS hc hs hl)
/-- the clone of an array of bytes -/
theorem wk_cloneB {a idx : Nat} (hk : hp_kd G a = 30) (h1 : Cond.methodLink M.1.cls idx ⟨"[B", "clone", "()Ljava/lang/Object;"⟩ ∈ lw_all) (h2 : Cond.sameMethod "[B" "java/lang/Object" "clone" "()Ljava/lang/Object;" ∈ lw_all) (h3 : Cond.native ⟨"java/lang/Object", "clone", "()Ljava/lang/Object;"⟩ ∈ lw_all) (h4 : Cond.instanceMethod ⟨"java/lang/Object", "clone", "()Ljava/lang/Object;"⟩ ∈ lw_all)
    (h5 : Cond.selects "[B" ⟨"[B", "clone", "()Ljava/lang/Object;"⟩ ⟨"java/lang/Object", "clone", "()Ljava/lang/Object;"⟩ ∈ lw_all) (h6 : ("[B", "java/lang/Cloneable") ∈ hp_caL) (hfit : ∀ i, i < hp_ln G a → fits .byte (.int (hp_i G a i)) = true) (hcat : wk_ct st ≤ 8) (hdp : 1 ≤ j.1) (hr : 1 + hp_ln G a / 12 ≤ r)
    (hd : decode M.2.1 pc = .ok (.invokevirtual idx, 3)) (k : ∀ q, hp_kd G q = 0 → hp_A w q → wk_V w M j (pc + 3) lv (vR (some q) :: st) (hp_setI (hp_nw G q 30 (hp_ln G a)) q (hp_i G a)) (r - (1 + hp_ln G a / 12))) : wk_V w M j pc lv (vR (some a) :: st) G r := by
  intro p l e s m args below meth c X H locs cells slots ls hR hS hc hs hl T hT X9
  obtain ⟨hx, hb, hml, -, -, hown, hts, hK, -⟩ := id X
  obtain ⟨hc0, hy0, hz0⟩ := hp_arr (s := s) hR hK (a := a) (by rw [hk]; decide)
  rw [hk] at hc0 hy0 hz0
  have hc0' : H[a]? = some (arrV (w.2.1 30) (hp_ln G a) (fun j => .int (hp_i G a j))) := hc0
  generalize hC : arrV (w.2.1 30) (hp_ln G a) (fun j => .int (hp_i G a j)) = C1 at hc0'
  have hsz : C1.slots.size = hp_ln G a := by rw [← hC]; exact arrV_size _ _ _
  have hvm0 : C1.vm = .none := by rw [← hC]; rfl
  have hcl0 : C1.cls = w.2.1 30 := by rw [← hC]; rfl
  have hcellE : ({ cls := C1.cls, slots := C1.slots } : Cell) = C1 := by rw [← hC]; rfl
  obtain ⟨c0, t0', f1, f2, f3⟩ := Cond.castable_spec (va_Nw.use (A := args) rfl (hK.2.2.2.2.2.1 _ h6))
  have hnm : s.vm.findClass "[B" = some (w.2.1 30) := hz0
  cases hnm.symm.trans f1
  have hcellT : T.heap[a]? = some C1 := by rw [hT]; exact hc0'
  obtain ⟨-, kA, hkA, comp, hkind⟩ := State.isArrayOf_alike X9.warmed.alike (hy0 0 (fun _ => .null))
  obtain ⟨-, kS, hkS, compS, hkindS⟩ := hy0 0 (fun _ => .null)
  obtain ⟨vm', X', st9⟩ := X9.cloneArray hx hown (hts _ h1) (hts _ h2) (hts _ h3) (hts _ h4) (hts _ h5) (a := a) (cell := C1) hcellT (fun k h => by rw [hvm0] at h; cases h) (by rw [hvm0]; exact fun h => by cases h) (by rw [hcl0]; exact hnm) f2 (by rw [hcl0]; exact f3)
    (fun i v hv => by
      rw [hcl0]
      have hk' : T.vm.classes[w.2.1 30]? = some kA := hkA
      have hlt : i < hp_ln G a := by rw [← hsz]; exact (Array.getElem?_eq_some_iff.mp hv).1
      have hv' : v = .int (hp_i G a i) := by
        rw [← hC, arrV_read _ _ hlt] at hv
        exact (Option.some.inj hv).symm
      have h9 := hfit i hlt
      rw [← hv'] at h9
      have hkind' : kA.kind = .array comp .byte := hkind
      simpa [State.fitsSlot, State.slotType?, hk', hkind'] using h9)
    (g := F0 m pc ls ((vR (some a) :: st).map wk_v)) rfl (by rw [hml]; exact hl.1) (rest := st.map wk_v) rfl (by rw [hb]; exact hd) (by show 1 ≤ j.1; exact hdp) (by
      have := wk_ct_eq st
      show 2 * 0 + _ + 14 ≤ 50 * j.1
      rw [this]; omega) (by show cells + 1 ≤ j.2.1; omega) (by rw [hsz]; show slots + hp_ln G a ≤ 12 * j.2.1; omega) (hloader := by rw [hcl0]; exact Vm.clonesLoader_of_array hkS hkindS)
  rw [hcellE, hsz] at X'
  generalize hH1 : H.push C1 = H1
  have z1 : H1.size = H.size + 1 := by rw [← hH1, Array.size_push]
  have e1 : H1[H.size]? = some C1 := by rw [← hH1, Array.getElem?_push_size]
  have o1 : ∀ q : Nat, q < H.size → H1[q]? = H[q]? := fun q hq => by rw [← hH1, Array.getElem?_push, if_neg (Nat.ne_of_lt hq)]
  have hR1 : hp_R w (hp_setI (hp_nw G H.size 30 (hp_ln G a)) H.size (hp_i G a)) H1 := by
    refine hR.upd (a := H.size) ⟨by rw [hp_cs_setI, hp_cs_nw, hR.2.2.1, z1], by rw [hp_ss_setI, hp_ss_nw, hR.2.2.2, hp_sl_push z1 o1 e1, hsz]; rfl⟩ (by omega) (fun b _ hb => o1 b hb) (fun b hb => ?_) fun _ => ⟨⟨fun q => ?_, fun _ => ?_⟩, ?_⟩
    · obtain ⟨z1, z2, z3, z4, z5⟩ := hp_setI_ne (G := hp_nw G H.size 30 (hp_ln G a)) (f := hp_i G a) b hb
      obtain ⟨y1, y2, y3, y4, y5⟩ := hp_nw_ne (G := G) (c := 30) (n := hp_ln G a) b hb
      exact ⟨z1.trans y1, z2.trans y2, z3.trans y3, z4.trans y4, z5.trans y5⟩
    · rw [hp_kd_setI, hp_kd_nw, if_pos rfl] at q; omega
    · have e5 : hp_i (hp_setI (hp_nw G H.size 30 (hp_ln G a)) H.size (hp_i G a)) H.size = hp_i G a := by funext x; rw [hp_i_setI, if_pos rfl]
      rw [e5, hp_kd_setI, hp_kd_nw, if_pos rfl, hp_ln_setI, hp_ln_nw, if_pos rfl, e1, ← hC]
      rfl
    · rw [hp_kd_setI, hp_kd_nw, if_pos rfl]; decide
  obtain ⟨t, b1, b2⟩ := k H.size (hR.fresh (Nat.le_refl _)) (wk_A hR) p l e s m args below meth c X H1 _ _ _ ls hR1 (hS.born z1 o1) (by show cells + 1 + _ ≤ j.2.1; omega) (by show slots + hp_ln G a + _ ≤ 12 * j.2.1; omega) hl _ (by rw [← hH1, ← hT]; rfl) X'
  refine ⟨t, st9 t ?_, b2⟩
  rw [hcellE, hT]
  exact b1
/-- a float constant into a final field of its class's constructor -/
theorem wk_ldcfPut (c k : Nat) {a idf idx : Nat} (v : UInt32) (hF : hp_FL M.1.cls idx c k) (hty : hp_ty c k = .float) (hk : hp_kd G a = c) (hA : hp_A w a) (hfin : (hp_T c k).2.2.2 = true ∧ M.1.name = "<init>" ∧ (hp_T c k).1 = M.1.cls)
    (hw : Cond.constantFloat M.1.cls idf v ∈ lw_all) (hdf : decode M.2.1 pc = .ok (.ldc idf, 2)) (hd : decode M.2.1 (pc + 2) = .ok (.putfield idx, 3)) (k' : wk_V w M j (pc + 2 + 3) lv st (hp_sI G a k v.toInt32) r) : wk_V w M j pc lv (vR (some a) :: st) G r := by
  intro p l e s m args below meth c9 X H locs cells slots ls hR hS hc hs hl
  obtain ⟨hx, hb, -, -, -, hown, hts, hK, -, hnm, -⟩ := id X
  refine lv_ldcf hx hb hown (hts _ hw) hdf ?_
  obtain ⟨ref, hlink, hsame⟩ := hp_same hts hF
  obtain ⟨c0, c1, c2, -⟩ := hF
  subst hk
  obtain ⟨⟨g1, -⟩, g3⟩ := hR.1 a c0
  obtain ⟨cell, q1, q2, q3, q4⟩ := g1 c1
  obtain ⟨hSl, hfc, kC, hkC, hkind⟩ := hK.1 _ c1
  obtain ⟨cf, kf, fi, f, hi, hsl⟩ := hSl k c2
  have hap : ∀ x y, x < hp_N (hp_kd G a) → y < hp_N (hp_kd G a) → x ≠ y → (w.1.2 (hp_kd G a)) x ≠ (w.1.2 (hp_kd G a)) y := by
    intro x y hx9 hy9 hne
    obtain ⟨_, _, _, fa, hia, ea⟩ := hSl x hx9
    obtain ⟨_, _, _, fb, hib, eb⟩ := hSl y hy9
    rw [← ea, ← eb]
    refine u_apart (u_lays hts (hp_inA _ c1) hx9) (u_lays hts (hp_inA _ c1) hy9) hia hib ?_
    rw [(State.fieldFound?_type hia (hp_ptA _ c1 x hx9)).1, (State.fieldFound?_type hib (hp_ptA _ c1 y hy9)).1]
    exact hp_nmA _ c1 x hx9 y hy9 hne
  have hst := (u_facts hfc hkC (u_lays hts (hp_inA _ c1) c2) hi).1
  have hslot : f.slot < cell.slots.size := by rw [hsl]; exact k2_hasslot (q4 k c2)
  have hlay := hts _ ((hp_inA _ c1) _ (u_in_lay c2))
  unfold u_lay at hlay
  rw [if_pos hfin.1] at hlay
  have hcf : m.cls = cf := by
    obtain ⟨_, _, c', _, _, _, -, -, hf', -, -, -, hown2, -⟩ := Cond.laysFinal_spec hlay
    have e1 : c' = cf := by have := hi.symm.trans hf'; simp at this; exact this.1.symm
    rw [hfin.2.2] at hown2
    rw [← e1]; exact Option.some.inj (hown.symm.trans hown2)
  have h6 := u_fits hfc hkC hkind (Or.inr hlay) hi (hp_ptA _ c1 k c2) (v := .float v) (by rw [hty]; rfl) (by rw [hty]; rfl)
  refine W.putFinK hx hb hown hlink (hsame _ hi) hst hcf (hnm.trans hfin.2.1) (by rw [q2]; exact h6) q1 q3 hslot rfl rfl hd fun H' e1 e2 e3 => ?_
  have hct : hp_cs (hp_sI G a k v.toInt32) = H'.size ∧ hp_ss (hp_sI G a k v.toInt32) = hp_sl H' := ⟨by rw [hp_cs_sI, hR.2.2.1, e2], by rw [hp_ss_sI, hR.2.2.2]; exact (hp_sl_set q1 e1 (by simp [Cell.setSlot]) e3).symm⟩
  rw [hsl] at e1 ⊢
  refine k' p l e s m args below meth c9 X H' _ cells slots ls ?_ (hS.put e2 e3 hA) hc hs hl
  refine hR.upd (a := a) hct (by omega) (fun b hb _ => e3 b hb) hp_sI_ne fun _ => ?_
  refine ⟨⟨fun _ => ?_, fun q => absurd (show 28 ≤ hp_kd G a from q) (by omega)⟩, g3⟩
  exact t_OB.to (⟨_, e1, q2, q3, t_set q4 hap c2 (.float v)⟩ : t_OB a _ _ _ H' (updV _ k (.float v))) (fun n _ => by
    show updV _ k (.float v) n = hp_fv (hp_ty (hp_kd G a) n) (hp_i (hp_sI G a k v.toInt32) a n) (hp_r (hp_sI G a k v.toInt32) a n)
    rw [hp_i_sI, if_pos rfl, hp_r_sI]
    by_cases hnk : n = k
    · subst hnk
      rw [if_pos rfl, hty]
      simp [updV, hp_fv]
    · rw [if_neg hnk]
      simp [updV, hnk])
/-- 'throw new E()' of an exception of the JDK -/
theorem wk_throw0 {cls : String} {ik ic : Nat} (names : List String) (hfit : Bundle.fit cls = true ∧ (∀ n ∈ names, Bundle.fit n = true) ∧ names.length ≤ 4)
    (hw : ∀ x ∈ Cond.classLink M.1.cls ik cls :: Cond.initialized cls :: vx_at0 M.1.cls ic cls names, vx_ot x = true ∧ (x ∈ lw_all ∨ (∃ q ∈ hp_dcL, x = .declares q) ∨ ∃ q ∈ hp_caL, x = .castable q.1 q.2)) (hh : M.2.2.2.2 = []) (hcat : wk_ct st ≤ 8) (hdp : 10 ≤ j.1) (hr : 1 ≤ r)
    (d0 : decode M.2.1 pc = .ok (.new ik, 3)) (d3 : decode M.2.1 (pc + 3) = .ok (.dup, 1)) (d4 : decode M.2.1 (pc + 4) = .ok (.invokespecial ic, 3)) (d7 : decode M.2.1 (pc + 7) = .ok (.athrow, 1)) (hP : ∀ q x y, j.2.2.2.1 cls q (hp_cn G x y)) : wk_V w M j pc lv st G r := by
  intro p l e s m args below meth c X H locs cells slots ls hR hS hc hs hl
  obtain ⟨hx, hb, hml, -, hlo, hown, hts, hK, htab, -, htr, -⟩ := id X
  have hat : ∀ x ∈ Cond.classLink M.1.cls ik cls :: Cond.initialized cls :: vx_at0 M.1.cls ic cls names, x.before args s = true := fun x h => by
    rcases (hw x h).2 with h1 | ⟨q, h1, h2⟩ | ⟨q, h1, h2⟩
    · exact hts _ h1
    · rw [h2]; exact va_Nw.use rfl (hK.2.2.2.2.2.2.2.2.2.2.2.1 _ h1)
    · rw [h2]; exact va_Nw.use rfl (hK.2.2.2.2.2.1 _ h1)
  refine vx_throw0 (names := names) hx hb htr hown hfit.1 hfit.2.1 (hat _ List.mem_cons_self) (hat _ (List.mem_cons_of_mem _ List.mem_cons_self)) (fun x h => hat x (List.mem_cons_of_mem _ (List.mem_cons_of_mem _ h))) (fun x h => (hw x h).1)
    hK.2.2.2.2.2.2.2.2.2.2.2.2.2.1 hK.2.2.2.2.2.2.2.2.2.2.2.2.2.2.1 hS (by rw [hml]; exact hl.1) d0 d3 d4 d7 (by rw [htab, hh]; intro x hx; cases hx) ?_ ?_ ?_ ?_ hlo (fun q9 t hal h1 h2 => ⟨_, hP q9 _ _, hR.kept h1 h2, ⟨Nat.le_trans hS.1 h1, fun q g1 g2 => (h2 q (Nat.lt_of_lt_of_le g1 hS.1)).trans (hS.2.1 q g1 g2)⟩⟩) hS.2.2 (by omega) (by omega)
  · show names.length + 3 < j.1
    have := hfit.2.2
    omega
  · have h8 := hfit.2.2
    have h9 := wk_ct_eq st
    show _ + (13 * (names.length + 1) + 42) ≤ 50 * j.1
    rw [h9]
    omega
  · show cells + 1 ≤ j.2.1
    omega
  · show slots + 6 ≤ 12 * j.2.1
    omega
end
