/-! OWN LAYER, 10: rows of the JDK's natives: arraycopy, clone, getClass; class constants; a float field -/
/-- an array's whole contents -/
def hp_setI (G : GH) (a : Nat) (f : Nat → Int32) : GH := (G.1, G.2.1, hp_u1 G.2.2.1 a f, G.2.2.2)
def hp_setR (G : GH) (a : Nat) (f : Nat → Option Nat) : GH := (G.1, G.2.1, G.2.2.1, hp_u1 G.2.2.2.1 a f, G.2.2.2.2)
theorem hp_kd_setI {G : GH} {a : Nat} {f : Nat → Int32} {b : Nat} : hp_kd (hp_setI G a f) b = hp_kd G b := rfl
theorem hp_kd_setR {G : GH} {a : Nat} {f : Nat → Option Nat} {b : Nat} : hp_kd (hp_setR G a f) b = hp_kd G b := rfl
theorem hp_ln_setI {G : GH} {a : Nat} {f : Nat → Int32} {b : Nat} : hp_ln (hp_setI G a f) b = hp_ln G b := rfl
theorem hp_ln_setR {G : GH} {a : Nat} {f : Nat → Option Nat} {b : Nat} : hp_ln (hp_setR G a f) b = hp_ln G b := rfl
theorem hp_i_setI {G : GH} {a : Nat} {f : Nat → Int32} {b j : Nat} : hp_i (hp_setI G a f) b j = if b = a then f j else hp_i G b j := by
  show (if b = a then f else G.2.2.1 b) j = _
  split <;> rfl
theorem hp_r_setI {G : GH} {a : Nat} {f : Nat → Int32} {b j : Nat} : hp_r (hp_setI G a f) b j = hp_r G b j := rfl
theorem hp_r_setR {G : GH} {a : Nat} {f : Nat → Option Nat} {b j : Nat} : hp_r (hp_setR G a f) b j = if b = a then f j else hp_r G b j := by
  show (if b = a then f else G.2.2.2.1 b) j = _
  split <;> rfl
theorem hp_i_setR {G : GH} {a : Nat} {f : Nat → Option Nat} {b j : Nat} : hp_i (hp_setR G a f) b j = hp_i G b j := rfl
theorem hp_l_setI {G : GH} {a : Nat} {f : Nat → Int32} {b j : Nat} : hp_l (hp_setI G a f) b j = hp_l G b j := rfl
theorem hp_l_setR {G : GH} {a : Nat} {f : Nat → Option Nat} {b j : Nat} : hp_l (hp_setR G a f) b j = hp_l G b j := rfl
theorem hp_cs_setI {G : GH} {a : Nat} {f : Nat → Int32} : hp_cs (hp_setI G a f) = hp_cs G := rfl
theorem hp_ss_setI {G : GH} {a : Nat} {f : Nat → Int32} : hp_ss (hp_setI G a f) = hp_ss G := rfl
theorem hp_cs_setR {G : GH} {a : Nat} {f : Nat → Option Nat} : hp_cs (hp_setR G a f) = hp_cs G := rfl
theorem hp_ss_setR {G : GH} {a : Nat} {f : Nat → Option Nat} : hp_ss (hp_setR G a f) = hp_ss G := rfl
theorem hp_setI_ne {G : GH} {a : Nat} {f : Nat → Int32} (b : Nat) (h : b ≠ a) : hp_kd (hp_setI G a f) b = hp_kd G b ∧ hp_ln (hp_setI G a f) b = hp_ln G b ∧ hp_i (hp_setI G a f) b = hp_i G b ∧ hp_r (hp_setI G a f) b = hp_r G b ∧ hp_l (hp_setI G a f) b = hp_l G b :=
  ⟨rfl, rfl, by funext j; rw [hp_i_setI, if_neg h], rfl, rfl⟩
theorem hp_setR_ne {G : GH} {a : Nat} {f : Nat → Option Nat} (b : Nat) (h : b ≠ a) : hp_kd (hp_setR G a f) b = hp_kd G b ∧ hp_ln (hp_setR G a f) b = hp_ln G b ∧ hp_i (hp_setR G a f) b = hp_i G b ∧ hp_r (hp_setR G a f) b = hp_r G b ∧ hp_l (hp_setR G a f) b = hp_l G b :=
  ⟨rfl, rfl, rfl, by funext j; rw [hp_r_setR, if_neg h], rfl⟩
theorem hp_nn (z : Int32) (hz : ¬ z < 0) : z.toInt = (z.toNatClampNeg : Int) := by
  have hz0 : (0 : Int) ≤ z.toInt := by
    have := Int32.not_lt.mp hz
    simpa using Int32.le_iff_toInt_le.mp this
  show z.toInt = ((z.toInt.toNat : Nat) : Int)
  omega
section
variable {w : WD} {M : MI} {j : JB} {pc r : Nat} {lv : List (Nat × WV)} {st : List WV} {G : GH}
theorem hp_acI {c : Nat} (h : 28 ≤ c) (h2 : c < 31) (cA : ClassId) (n : Nat) (i : Nat → Int32) (rr : Nat → Option Nat) (x : Nat → Int64) : hp_ac cA (hp_at c) n i rr x = arrV cA n (fun j => .int (i j)) := by
  have : c = 28 ∨ c = 29 ∨ c = 30 := by omega
  rcases this with rfl | rfl | rfl <;> rfl
theorem hp_acR {c : Nat} (h : 32 ≤ c) (h2 : c < 36) (cA : ClassId) (n : Nat) (i : Nat → Int32) (rr : Nat → Option Nat) (x : Nat → Int64) : hp_ac cA (hp_at c) n i rr x = arrV cA n (fun j => va_rf (rr j)) := by
  have : c = 32 ∨ c = 33 ∨ c = 34 ∨ c = 35 := by omega
  rcases this with rfl | rfl | rfl | rfl <;> rfl
/-- what System.arraycopy's call asks of the words -/
def wk_ac (M : MI) (idx : Nat) : Prop := Cond.methodLink M.1.cls idx arraycopyName ∈ lw_all ∧ Cond.native arraycopyName ∈ lw_all ∧ Cond.static arraycopyName ∈ lw_all ∧ Cond.initialized "java/lang/System" ∈ lw_all
/-- ints, booleans, bytes -/
theorem wk_acopyI {a0 a : Nat} {sp dp n : Int32} {idx : Nat} (hw : wk_ac M idx) (hA : hp_A w a) (hk : 28 ≤ hp_kd G a ∧ hp_kd G a < 31) (hk0 : hp_kd G a0 = hp_kd G a)
    (h1 : ¬ sp < 0) (h2 : ¬ dp < 0) (h3 : ¬ n < 0) (h4 : sp.toNatClampNeg + n.toNatClampNeg ≤ hp_ln G a0) (h5 : dp.toNatClampNeg + n.toNatClampNeg ≤ hp_ln G a)
    (hfit : ∀ i, i < n.toNatClampNeg → fits (hp_at (hp_kd G a)) (.int (hp_i G a0 (sp.toNatClampNeg + i))) = true) (hcat : wk_ct st ≤ 8) (hdp : 1 ≤ j.1) (hd : decode M.2.1 pc = .ok (.invokestatic idx, 3))
    (k : wk_V w M j (pc + 3) lv st (hp_setI G a (va_cpy (hp_i G a0) (hp_i G a) sp.toNatClampNeg dp.toNatClampNeg n.toNatClampNeg)) r) : wk_V w M j pc lv (vI n :: vI dp :: vR (some a) :: vI sp :: vR (some a0) :: st) G r := by
  intro p l e s m args below meth c X H locs cells slots ls hR hS hc hs hl T hT X9
  obtain ⟨hx, hb, hml, -, -, hown, hts, hK, -⟩ := id X
  obtain ⟨hc0, hy0, -⟩ := hp_arr (s := s) hR hK (a := a0) (by omega)
  obtain ⟨hc1, hy1, -⟩ := hp_arr (s := s) hR hK (a := a) hk.1
  rw [hk0] at hc0 hy0
  rw [hp_acI hk.1 hk.2] at hc0 hc1
  obtain ⟨-, k0, hkk0, cm0, hkk0'⟩ := hy0 0 (fun _ => .null)
  obtain ⟨-, k1, hkk1, cm1, hkk1'⟩ := hy1 0 (fun _ => .null)
  have hprim : refKind (hp_at (hp_kd G a)) = false := by
    have : hp_kd G a = 28 ∨ hp_kd G a = 29 ∨ hp_kd G a = 30 := by omega
    rcases this with e | e | e <;> rw [e] <;> rfl
  obtain ⟨vm', X', step⟩ := X9.arraycopy hx hown (hts _ hw.1) (hts _ hw.2.1) (hts _ hw.2.2.1) (hts _ hw.2.2.2) (src := a0) (dst := a) (cs := arrV (w.2.1 (hp_kd G a)) (hp_ln G a0) (fun j => .int (hp_i G a0 j))) (cd := arrV (w.2.1 (hp_kd G a)) (hp_ln G a) (fun j => .int (hp_i G a j))) (srcPos := sp) (destPos := dp) (n := n) (by rw [hT]; exact hc0) (by rw [hT]; exact hc1)
    (fun _ h => by cases h) (fun _ h => by cases h) (fun h => by cases h) (fun h => by cases h) hkk0 hkk1 hkk0' hkk1' (by simp [hprim]) h1 h2 h3
    (by rw [hp_nn sp h1, hp_nn n h3, arrV_size]; omega)
    (by rw [hp_nn dp h2, hp_nn n h3, arrV_size]; omega)
    (fun vm₁ _ i hi => by
      have e : (arrV (w.2.1 (hp_kd G a)) (hp_ln G a0) (fun j => .int (hp_i G a0 j))).slots.getD (sp.toNatClampNeg + i) .null = .int (hp_i G a0 (sp.toNatClampNeg + i)) := by
        rw [Array.getD_eq_getD_getElem?, arrV_read _ _ (by omega)]
        rfl
      refine ⟨?_, ?_⟩
      · rw [e]
        exact hfit i hi
      · rw [e]
        exact trivial)
    (g := F0 m pc ls ((vI n :: vI dp :: vR (some a) :: vI sp :: vR (some a0) :: st).map wk_v)) rfl (by rw [hml]; exact hl.1) (rest := st.map wk_v) rfl (by rw [hb]; exact hd) (by show 1 ≤ j.1; exact hdp) (by
      have h9 := wk_ct_eq st
      have h8 : nativeFrameWords "java/lang/System" "arraycopy" 5 ≤ 30 := by decide
      show 2 * 0 + _ + _ ≤ 50 * j.1
      rw [h9]
      omega)
  have e1 : copied (arrV (w.2.1 (hp_kd G a)) (hp_ln G a0) (fun j => .int (hp_i G a0 j))) (arrV (w.2.1 (hp_kd G a)) (hp_ln G a) (fun j => .int (hp_i G a j))) sp dp n = arrV (w.2.1 (hp_kd G a)) (hp_ln G a) (fun j => .int (va_cpy (hp_i G a0) (hp_i G a) sp.toNatClampNeg dp.toNatClampNeg n.toNatClampNeg j)) := va_copied (fun z => .int z) _ _ _ _ h4
  rw [e1] at X' step
  have hl9 : a < H.size := (Array.getElem?_eq_some_iff.mp hc1).1
  generalize hC : arrV (w.2.1 (hp_kd G a)) (hp_ln G a) (fun j => .int (va_cpy (hp_i G a0) (hp_i G a) sp.toNatClampNeg dp.toNatClampNeg n.toNatClampNeg j)) = C1 at X' step
  have hheap : ((T.setVm vm').setCell a C1).heap = H.setIfInBounds a C1 := by rw [← hT]; rfl
  have oq : ∀ q : Nat, q ≠ a → (H.setIfInBounds a C1)[q]? = H[q]? := fun q hq => by simp [Array.getElem?_setIfInBounds, Ne.symm hq]
  obtain ⟨t, a1, b1⟩ := k p l e s m args below meth c X (H.setIfInBounds a C1) _ cells slots ls (hR.arr (a := a) (by simp) oq hk.1 hp_setI_ne rfl ⟨rfl, rfl, rfl⟩ (by
      rw [hp_acI hk.1 hk.2]
      have e9 : hp_i (hp_setI G a (va_cpy (hp_i G a0) (hp_i G a) sp.toNatClampNeg dp.toNatClampNeg n.toNatClampNeg)) a = va_cpy (hp_i G a0) (hp_i G a) sp.toNatClampNeg dp.toNatClampNeg n.toNatClampNeg := by
        funext q; rw [hp_i_setI, if_pos rfl]
      rw [e9, hp_ln_setI, hC]
      simp [Array.getElem?_setIfInBounds, hl9])) ⟨by simp; exact hS.1, fun q g1 g2 => by
      rw [oq q (fun e => g2 (by rw [e]; exact hA))]
      exact hS.2.1 q g1 g2, fun q hq => by
      rcases List.mem_append.mp hq with h | h
      · exact hS.2.2 q h
      · obtain ⟨z, -, hz⟩ := List.mem_map.mp h
        rw [← hz]
        exact hA⟩ hc hs hl _ hheap X'
  exact ⟨t, step t a1, b1⟩
/-- references -/
theorem wk_acopyR {a0 a : Nat} {sp dp n : Int32} {idx : Nat} {E1 : String} (hw : wk_ac M idx) (hA : hp_A w a) (hk : 32 ≤ hp_kd G a) (hk0 : 32 ≤ hp_kd G a0) (hE : hp_at (hp_kd G a) = .object E1)
    (h1 : ¬ sp < 0) (h2 : ¬ dp < 0) (h3 : ¬ n < 0) (h4 : sp.toNatClampNeg + n.toNatClampNeg ≤ hp_ln G a0) (h5 : dp.toNatClampNeg + n.toNatClampNeg ≤ hp_ln G a)
    (hel : ∀ i, i < n.toNatClampNeg → ∀ y, hp_r G a0 (sp.toNatClampNeg + i) = some y → hp_kd G y ≠ 0 ∧ hp_kd G y < 28 ∧ hp_sub (hp_kd G y) E1) (hcat : wk_ct st ≤ 8) (hdp : 1 ≤ j.1) (hd : decode M.2.1 pc = .ok (.invokestatic idx, 3))
    (k : wk_V w M j (pc + 3) lv st (hp_setR G a (va_cpy (hp_r G a0) (hp_r G a) sp.toNatClampNeg dp.toNatClampNeg n.toNatClampNeg)) r) : wk_V w M j pc lv (vI n :: vI dp :: vR (some a) :: vI sp :: vR (some a0) :: st) G r := by
  intro p l e s m args below meth c X H locs cells slots ls hR hS hc hs hl T hT X9
  obtain ⟨hx, hb, hml, -, -, hown, hts, hK, -⟩ := id X
  have hlt := (hR.1 a (by omega)).2
  have hlt0 := (hR.1 a0 (by omega)).2
  obtain ⟨hc0, hy0, -⟩ := hp_arr (s := s) hR hK (a := a0) (by omega)
  obtain ⟨hc1, hy1, hz1⟩ := hp_arr (s := s) hR hK (a := a) (by omega)
  rw [hp_acR hk hlt] at hc1
  rw [hp_acR hk0 hlt0] at hc0
  obtain ⟨C0, hC0⟩ := hp_atR hk0 hlt0
  rw [hC0] at hy0
  rw [hE] at hy1 hz1
  obtain ⟨-, k0, hkk0, cm0, hkk0'⟩ := hy0 0 (fun _ => .null)
  obtain ⟨-, k1, hkk1, cm1, hkk1'⟩ := hy1 0 (fun _ => .null)
  obtain ⟨vm', X', step⟩ := X9.arraycopy hx hown (hts _ hw.1) (hts _ hw.2.1) (hts _ hw.2.2.1) (hts _ hw.2.2.2) (src := a0) (dst := a) (cs := arrV (w.2.1 (hp_kd G a0)) (hp_ln G a0) (fun j => va_rf (hp_r G a0 j))) (cd := arrV (w.2.1 (hp_kd G a)) (hp_ln G a) (fun j => va_rf (hp_r G a j))) (srcPos := sp) (destPos := dp) (n := n) (by rw [hT]; exact hc0) (by rw [hT]; exact hc1)
    (fun _ h => by cases h) (fun _ h => by cases h) (fun h => by cases h) (fun h => by cases h) hkk0 hkk1 hkk0' hkk1' rfl h1 h2 h3
    (by rw [hp_nn sp h1, hp_nn n h3, arrV_size]; omega)
    (by rw [hp_nn dp h2, hp_nn n h3, arrV_size]; omega)
    (fun vm₁ hal i hi => by
      have e : (arrV (w.2.1 (hp_kd G a0)) (hp_ln G a0) (fun j => va_rf (hp_r G a0 j))).slots.getD (sp.toNatClampNeg + i) .null = va_rf (hp_r G a0 (sp.toNatClampNeg + i)) := by
        rw [Array.getD_eq_getD_getElem?, arrV_read _ _ (by omega)]
        rfl
      rw [e]
      cases hy : hp_r G a0 (sp.toNatClampNeg + i) with
      | none => exact ⟨rfl, trivial⟩
      | some y =>
        obtain ⟨q1, q2, q3⟩ := hel i hi y hy
        obtain ⟨cellV, g1, g2, g3, kC, g4, -⟩ := hp_ref hR hK q1 q2
        obtain ⟨kA, comp, r1, r2, r3, -⟩ := hz1
        cases hkk1.symm.trans r1
        cases hkk1'.symm.trans r2
        obtain ⟨kE, hkE, -⟩ := Vm.findClass_spec r3
        obtain ⟨kC', hkC', -⟩ := hal.2.2 _ _ g4
        obtain ⟨kE', hkE', -⟩ := hal.2.2 _ _ hkE
        refine ⟨rfl, cellV, (show T.heap[y]? = some cellV by rw [hT]; exact g1), (fun q h => by rw [h] at g2; cases g2), ⟨kC', hkC'⟩, ?_, ?_⟩
        · exact ⟨kE', hkE'⟩
        · show vm₁.assignable _ _ = true
          rw [hal.assignable]
          exact hp_asg hK q2 q3 g3 r3)
    (g := F0 m pc ls ((vI n :: vI dp :: vR (some a) :: vI sp :: vR (some a0) :: st).map wk_v)) rfl (by rw [hml]; exact hl.1) (rest := st.map wk_v) rfl (by rw [hb]; exact hd) (by show 1 ≤ j.1; exact hdp) (by
      have h9 := wk_ct_eq st
      have h8 : nativeFrameWords "java/lang/System" "arraycopy" 5 ≤ 30 := by decide
      show 2 * 0 + _ + _ ≤ 50 * j.1
      rw [h9]
      omega)
  have e1 : copied (arrV (w.2.1 (hp_kd G a0)) (hp_ln G a0) (fun j => va_rf (hp_r G a0 j))) (arrV (w.2.1 (hp_kd G a)) (hp_ln G a) (fun j => va_rf (hp_r G a j))) sp dp n = arrV (w.2.1 (hp_kd G a)) (hp_ln G a) (fun j => va_rf (va_cpy (hp_r G a0) (hp_r G a) sp.toNatClampNeg dp.toNatClampNeg n.toNatClampNeg j)) := va_copied (fun z => va_rf z) _ _ _ _ h4
  rw [e1] at X' step
  have hl9 : a < H.size := (Array.getElem?_eq_some_iff.mp hc1).1
  generalize hC : arrV (w.2.1 (hp_kd G a)) (hp_ln G a) (fun j => va_rf (va_cpy (hp_r G a0) (hp_r G a) sp.toNatClampNeg dp.toNatClampNeg n.toNatClampNeg j)) = C1 at X' step
  have hheap : ((T.setVm vm').setCell a C1).heap = H.setIfInBounds a C1 := by rw [← hT]; rfl
  have oq : ∀ q : Nat, q ≠ a → (H.setIfInBounds a C1)[q]? = H[q]? := fun q hq => by simp [Array.getElem?_setIfInBounds, Ne.symm hq]
  obtain ⟨t, a1, b1⟩ := k p l e s m args below meth c X (H.setIfInBounds a C1) _ cells slots ls (hR.arr (a := a) (by simp) oq (by omega) hp_setR_ne rfl ⟨rfl, rfl, rfl⟩ (by
      rw [hp_acR hk hlt]
      have e9 : hp_r (hp_setR G a (va_cpy (hp_r G a0) (hp_r G a) sp.toNatClampNeg dp.toNatClampNeg n.toNatClampNeg)) a = va_cpy (hp_r G a0) (hp_r G a) sp.toNatClampNeg dp.toNatClampNeg n.toNatClampNeg := by
        funext q; rw [hp_r_setR, if_pos rfl]
      rw [e9, hp_ln_setR, hC]
      simp [Array.getElem?_setIfInBounds, hl9])) ⟨by simp; exact hS.1, fun q g1 g2 => by
      rw [oq q (fun e => g2 (by rw [e]; exact hA))]
      exact hS.2.1 q g1 g2, fun q hq => by
      rcases List.mem_append.mp hq with h | h
      · exact hS.2.2 q h
      · obtain ⟨z, -, hz⟩ := List.mem_map.mp h
        rw [← hz]
        exact hA⟩ hc hs hl _ hheap X'
  exact ⟨t, step t a1, b1⟩
end
