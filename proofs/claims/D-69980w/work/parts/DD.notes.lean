/-! THE COMPONENT: notes that stray; constructors of Variable, Beat, Equation -/
set_option maxRecDepth 100000
/-- owners are known -/
def sn (G : GH) : Prop := ∀ y u, hp_kd G y ≠ 0 → hp_kd G y ≠ 31 → hp_l G y u ≠ 0 → hp_kd G u ≠ 0
/-- without notes that name nobody -/
def nrmG (G : GH) : GH := (G.1, G.2.1, G.2.2.1, G.2.2.2.1, (fun y u => if hp_kd G u ≠ 0 ∨ hp_kd G y = 31 then hp_l G y u else 0), G.2.2.2.2.2)
theorem hp_l_nrm {G : GH} {y u : Nat} : hp_l (nrmG G) y u = if hp_kd G u ≠ 0 ∨ hp_kd G y = 31 then hp_l G y u else 0 := rfl
theorem sn_nrm {G : GH} : sn (nrmG G) := fun y u _ h2 h3 => by
  have h2' : hp_kd G y ≠ 31 := h2
  rw [hp_l_nrm] at h3
  by_cases q : hp_kd G u ≠ 0 ∨ hp_kd G y = 31
  · exact q.elim id (fun v => absurd v h2')
  · rw [if_neg q] at h3
    exact absurd rfl h3
theorem ow.nrm {G : GH} {y u : Nat} (h : ow G y u) (hu : hp_kd G u ≠ 0) : ow (nrmG G) y u := by
  refine ⟨by rw [hp_l_nrm, if_pos (Or.inl hu)]; exact h.1, fun v hv => h.2 v ?_⟩
  rw [hp_l_nrm] at hv
  by_cases q : hp_kd G v ≠ 0 ∨ hp_kd G y = 31
  · rw [if_pos q] at hv; exact hv
  · rw [if_neg q] at hv; exact absurd rfl hv
theorem cf.nrm {own : Nat → Prop} {G0 G : GH} (h : cf own G0 G) (hs : sn G0) : cf own G0 (nrmG G) := fun a ha => by
  have e : hp_l (nrmG G) a = hp_l G a := by
    funext u
    rw [hp_l_nrm]
    by_cases q : hp_kd G u ≠ 0 ∨ hp_kd G a = 31
    · rw [if_pos q]
    · rw [if_neg q]
      have q1 : hp_kd G u = 0 := Decidable.byContradiction fun v => q (Or.inl v)
      have q2 : hp_kd G a ≠ 31 := fun v => q (Or.inr v)
      refine Decidable.byContradiction fun v => ?_
      have l1 : hp_l G0 a u ≠ 0 := by rw [← h.lg ha]; exact fun w => v w.symm
      exact h.ne (hs a u ha (by rw [← h.kd ha]; exact q2) l1) q1
  obtain ⟨⟨h1, h2, h3⟩, h4⟩ := h a ha
  exact ⟨⟨h1, h2, e.trans h3⟩, fun o => ⟨(h4 o).1, (h4 o).2.1, e.trans h3⟩⟩
theorem hp_R.nrm {w : WD} {G : GH} {H : Heap} (h : hp_R w G H) : hp_R w (nrmG G) H := by
  refine ⟨fun b hb => ?_, h.2.1, h.2.2.1, h.2.2.2⟩
  obtain ⟨⟨c1, c2⟩, c3⟩ := h.1 b hb
  refine ⟨⟨c1, fun q => ?_⟩, c3⟩
  have c4 := c2 q
  show H[b]? = some (hp_ac (w.2.1 (hp_kd G b)) (hp_at (hp_kd G b)) (hp_ln G b) (hp_i G b) (hp_r G b) (hp_l (nrmG G) b))
  by_cases e : hp_kd G b = 31
  · have el : hp_l (nrmG G) b = hp_l G b := by
      funext u
      rw [hp_l_nrm, if_pos (Or.inr e)]
    rw [el]
    exact c4
  · rw [hp_ac_nl (hp_at_nl e) _ _ _ _ _ (hp_l G b)]
    exact c4
theorem wk_nrm {w : WD} {M : MI} {j : JB} {pc r : Nat} {lv : List (Nat × WV)} {stk : List WV} {G : GH} (kk : wk_V w M j pc lv stk (nrmG G) r) : wk_V w M j pc lv stk G r :=
  fun p l e s m args below meth c X H locs cells slots ls hR hS hc hs hl => kk p l e s m args below meth c X H locs cells slots ls hR.nrm hS hc hs hl
/-- what a new cell owns is new -/
theorem sn.fresh {own : Nat → Prop} {G0 G : GH} {y u : Nat} (hs : sn G0) (h : cf own G0 G) (hu : hp_kd G0 u = 0) (ho : ow G y u) (hk : hp_kd G y ≠ 31) : hp_kd G0 y = 0 :=
  Decidable.byContradiction fun q => by
    have e := h.lg q
    refine hs y u q (by rw [← h.kd q]; exact hk) ?_ hu
    rw [← e, ho.1]
    decide
section
variable {w : WD} {G : GH}
theorem al.nrm {a n c : Nat} {e : Nat → Option Nat} (h : al w G a n c e) : al w (nrmG G) a n c e := by
  obtain ⟨h1, h2, o, o1, o2, o3, o4, o5⟩ := h
  exact ⟨h1, h2, o, o1, o2, o3, o4, o5.imp id (fun u => ⟨u.1, u.2.1, u.2.2.nrm (by rw [h1.1]; decide)⟩)⟩
theorem hch.nrm : ∀ (xs : List Nat) (p : Option Nat), hch G p xs → hch (nrmG G) p xs
  | [], _, h => h
  | _ :: xs, _, h => ⟨h.1, hch.nrm xs _ h.2⟩
theorem hpv.nrm : ∀ (xs : List Nat) (p : Option Nat), hpv G p xs → hpv (nrmG G) p xs
  | [], _, h => h
  | _ :: xs, _, h => ⟨h.1, hpv.nrm xs _ h.2⟩
theorem hm.nrm {a s : Nat} {m : List Nat → Option Nat} (h : hm w G a s m) : hm w (nrmG G) a s m := by
  have ka : hp_kd G a ≠ 0 := by rw [h.1.1]; decide
  refine ⟨h.1, h.2.imp id ?_⟩
  rintro ⟨t, k, Lf, Vf, B, b1, ⟨t1, t2, t3, t4, t5, t6⟩, b3⟩
  refine ⟨t, k, Lf, Vf, B, b1, ⟨t1, t2, t3.nrm ka, t4, fun i hi => ?_, t6⟩, b3⟩
  obtain ⟨c1, c2, c3, c4⟩ := t5 i hi
  refine ⟨c1.nrm, c2, fun x hx => ?_, ?_⟩
  · obtain ⟨⟨n1, n2, n3, n4⟩, n5⟩ := c3 x hx
    exact ⟨⟨n1, n2, n3.nrm ka, n4⟩, n5⟩
  · refine c4.imp id ?_
    rintro ⟨r, xs, ps, lo, hi, e, p1, p2⟩
    exact ⟨r, xs, ps, lo, hi, e, p1.nrm, p2⟩
end
section
variable {w : WD} {d x : Nat} {G : GH}
/-- a new Variable -/
theorem X9_init_C {nm t : Option Nat} {k i : Int32} (hk : hp_kd G x = 6) (hA : hp_A w x) (hd : 1 ≤ d) : wk_C w mX9_init d 0 [vR (some x), vR nm, vR t, vI k, vI i] G (fun v G' => v = none ∧ G' = hp_sI (hp_sI (hp_sR (hp_sR (hp_sR G x 4 (zBASE w)) x 0 nm) x 1 t) x 2 k) x 3 i) (fun _ _ _ => False) := by
  refine wk_C_of (by decide) rfl (by cases nm <;> cases t <;> exact Nat.le_of_ble_eq_true rfl) ?_
  exact blX9_init_0 hd (blX9_init_4 hk hA (blX9_init_16 hk hA (blX9_init_26 hk hA ⟨rfl, rfl⟩)))
/-- a new Beat on the variable v -/
theorem X8_init_C {v b : Nat} {so : Int32} (hk : hp_kd G x = 5) (hA : hp_A w x) (hso : so = 0 ∨ so = 1) (hv : hp_kd G v = 6) (hb : hp_r G v 4 = some b) (hkb : hp_kd G b = 5) (hbx : b ≠ x) (hd : 1 ≤ d) : wk_C w mX8_init d 0 [vR (some x), vR (some v), vI so] G (fun u G' => u = none ∧ G' = hp_sI (hp_sI (hp_sR G x 0 (some v)) x 1 so) x 2 (hp_i G b 2 + 1)) (fun _ _ _ => False) := by
  refine wk_C_of (by decide) rfl (Nat.le_of_ble_eq_true rfl) ?_
  have hvx : v ≠ x := fun u => by rw [u, hk] at hv; cases hv
  refine blX8_init_0 hd (blX8_init_4 hk hA (by rcases hso with rfl | rfl <;> exact ⟨rfl, rfl⟩) (blX8_init_14 (fun _ _ => ?_) (fun u => by cases u)))
  refine blX8_init_23 (o3 := b) rfl hv ?_ hkb (blX8_init_32 rfl hk hA ⟨rfl, ?_⟩)
  · rw [hp_r_sI, hp_r_sR, if_neg hvx]; exact hb
  · have e : hp_i (hp_sI (hp_sR G x 0 (some v)) x 1 so) b 2 = hp_i G b 2 := by rw [hp_i_sI, if_neg hbx]; rfl
    rw [e]
end
