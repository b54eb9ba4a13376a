/-! THE COMPONENT's finish: what is put in counts too -/
set_option maxRecDepth 100000
theorem mn_add (a b : Nat) : (if nI (min a 1000000) + nI (min b 1000000) < (1000000 : Int32) then nI (min a 1000000) + nI (min b 1000000) else (1000000 : Int32)) = nI (min (a + b) 1000000) := by
  rw [nI_add]
  by_cases u : min a 1000000 + min b 1000000 < 1000000
  · rw [if_pos (show nI (min a 1000000 + min b 1000000) < (1000000 : Int32) from nI_lt (b := 1000000) u (by decide))]
    congr 1
    omega
  · rw [if_neg (show ¬ nI (min a 1000000 + min b 1000000) < (1000000 : Int32) from nI_nlt (b := 1000000) (by omega) (by omega)), show min (a + b) 1000000 = 1000000 by omega]
    rfl
section
variable {q : PZ} {S : MS} {X Q kq : Nat → Nat} {lo hi n t Lc Lm Lr k0 Le ce : Nat} {G00 G0 : GH} {D B cs ss : Nat} {Pt : Option WV → GH → Prop} {PX : String → Nat → GH → Prop} {TP TC TA : Nat → Nat}
/-- the sum over the first i calls -/
def sT (TP : Nat → Nat) (S : MS) (l : List Nat) (i : Nat) : Nat := ((l.take i).map (fun x => TP (jg_n (S.2 33 x)))).sum
theorem sT_s {TP : Nat → Nat} {l : List Nat} {i : Nat} (h : i < l.length) : sT TP S l (i + 1) = sT TP S l i + TP (jg_n (S.2 33 (l.getD i 0))) := by
  unfold sT
  rw [List.take_succ, List.map_append, List.sum_append, List.getElem?_eq_getElem h, ls_get h]
  simp
/-- the nodes' sums -/
def nT (q : PZ) (S : MS) (TP TC TA : Nat → Nat) (G : GH) : Prop := ∀ g, g < pr_N S → hp_kd G (qN q g) = 8 ∧ hp_i G (qN q g) 9 = nI (min (TP g) 1000000) ∧ hp_i G (qN q g) 10 = nI (min (TC g) 1000000) ∧ hp_i G (qN q g) 11 = nI (min (TA g) 1000000)
theorem nT.wi {G : GH} {j : Nat} {v : Int32} (h : nT q S TP TC TA G) (ht : ∀ g, g < pr_N S → qN q g ≠ t) : nT q S TP TC TA (hp_sI G t j v) := fun g hg => by
  obtain ⟨a, b, c, d⟩ := h g hg
  have e : ∀ m, hp_i (hp_sI G t j v) (qN q g) m = hp_i G (qN q g) m := fun m => by rw [hp_i_sI, if_neg (ht g hg)]
  exact ⟨a, (e 9).trans b, (e 10).trans c, (e 11).trans d⟩
/-- only the node's sums change -/
def tI (t : Nat) (G G' : GH) : Prop := cf (fun y => y = t) G G' ∧ hp_r G' t = hp_r G t ∧ ∀ k, ¬ (9 ≤ k ∧ k ≤ 11) → hp_i G' t k = hp_i G t k
theorem tI.wi {G : GH} {j : Nat} {v : Int32} (hj : 9 ≤ j ∧ j ≤ 11) : tI t G (hp_sI G t j v) := ⟨cf.rf.sI (Or.inl rfl), rfl, fun k hk => by rw [hp_i_sI, if_pos rfl, if_neg (by omega)]⟩
theorem tI.tr {G G1 G2 : GH} (h : tI t G G1) (h2 : tI t G1 G2) : tI t G G2 := ⟨h.1.tr h2.1, h2.2.1.trans h.2.1, fun k hk => (h2.2.2 k hk).trans (h.2.2 k hk)⟩
theorem gs.wi10 {G : GH} {l cc cm cr j : Nat} {v : Int32} (h : gl1 q G t 4 Lc l cc (fun i => some (X ((cls S lo hi).getD i 0)))) (hw : gtw q S X Q kq lo hi t G) : gl1 q (hp_sI G t j v) t 4 Lc l cc (fun i => some (X ((cls S lo hi).getD i 0))) := by
  have kt := hw.1.2.2.1
  exact h.fr (cf.rf.sI (own := fun y => y = t) (Or.inl rfl)) rfl (fun y u w => by have := al_ok u h.2.2.1.1.1; rw [w, kt] at this; omega)
theorem X3_fin_5 {A cc Lv cv nv a0 b0 : Nat} (hD : 4 ≤ D) (hhi : hi ≤ 5000) (ht : ∀ g, g < pr_N S → qN q g ≠ t) (hcN : ∀ x, x ∈ cls S lo hi → jg_n (S.2 33 x) < pr_N S) (hv : nv ≤ 6000) :
    ∀ m i G, i + m = (cls S lo hi).length → gtw q S X Q kq lo hi t G → gl1 q G t 4 Lc (cls S lo hi).length cc (fun i => some (X ((cls S lo hi).getD i 0))) → (hp_r G t 1 = some Lv ∧ al q.1.1 G Lv nv cv (fun j => some (qV q (pr_a S + j)))) → nT q S TP TC TA G → tI t G0 G →
      hp_i G t 9 = nI (min (a0 + sT TP S (cls S lo hi) i) 1000000) → hp_i G t 10 = nI (min (b0 + sT TC S (cls S lo hi) i) 1000000) → hp_i G t 11 = nI (min (sT TA S (cls S lo hi) i) 1000000) →
      (∀ G', gtw q S X Q kq lo hi t G' → tI t G0 G' → hp_i G' t 9 = nI (min (a0 + sT TP S (cls S lo hi) (cls S lo hi).length) 1000000) → hp_i G' t 10 = nI (min (b0 + sT TC S (cls S lo hi) (cls S lo hi).length) 1000000) → hp_i G' t 11 = nI (min (nv + sT TA S (cls S lo hi) (cls S lo hi).length) 1000000) → Pt none G') →
      wk_V q.1.1 mX3_finish (D, B, Pt, PX, cs, ss) 285 [(0, vR (some q.1.2.1)), (2, vI (nI i))] [] G A := by
  intro m
  have h2 : ∀ {G : GH} {j : Nat} {v : Int32}, gtw q S X Q kq lo hi t G → gtw q S X Q kq lo hi t (hp_sI G t j v) := fun {G j v} hw => by
    obtain ⟨⟨a1, a2, a3, a4⟩, b, c, d⟩ := hw
    have kt := a3
    have f : cf (fun y => y = t) G (hp_sI G t j v) := cf.rf.sI (Or.inl rfl)
    have nR : ¬ q.1.2.1 = t := fun w => by rw [w, kt] at a1; cases a1
    exact ⟨⟨a1, a2, a3, a4⟩, b.fr f, fun e u1 u2 => ⟨(c e u1 u2).1.gr0 f rfl (fun k _ => by
      have k1 := (c e u1 u2).1.1.1
      have := xk_r (S.2 32 e)
      rw [hp_i_sI, if_neg (fun w => by rw [w, kt] at k1; omega)]) (fun L _ w2 y w3 w4 => by have := al_ok w3 w2; rw [w4, kt] at this; omega), (c e u1 u2).2⟩, d⟩
  have hl2 : ∀ {G : GH} {j : Nat} {v : Int32}, gtw q S X Q kq lo hi t G → al q.1.1 G Lv nv cv (fun j => some (qV q (pr_a S + j))) → al q.1.1 (hp_sI G t j v) Lv nv cv (fun j => some (qV q (pr_a S + j))) := fun hw u => u.nI hw.1.2.2.1
  induction m with
  | zero =>
    intro i G him hw hL hV hT hR h9 h10 h11 K
    have e : i = (cls S lo hi).length := him
    subst e
    refine blX3_finish_285 hw.1.1 hw.1.2.1 hw.1.2.2.1 hL.1 hL.2.2.1.1.1 (J5_size_C (d := 0) hL.2.2.1) (by show 0 + 1 ≤ D; omega) (Nat.zero_le _) ?_ (fun _ _ _ u => absurd u id)
    rintro v G ⟨rfl, rfl⟩
    refine blX3_finish_296 (fun _ => ?_) (fun u => absurd (nI_le (Nat.le_refl _) (by have := cls_le (S := S) (lo := lo) (l := hi); omega)) u)
    refine blX3_finish_428 hw.1.1 hw.1.2.1 hw.1.2.2.1 hV.1 hV.2.1.1 (J5_size_C (d := 0) hV.2) (by show 0 + 1 ≤ D; omega) (Nat.zero_le _) ?_ (fun _ _ _ u => absurd u id)
    rintro v G ⟨rfl, rfl⟩
    refine blX3_finish_452 (by show 1 ≤ D; omega) ?_
    rw [h11, show nI nv = nI (min nv 1000000) by rw [show min nv 1000000 = nv by omega], mn_add, hw.1.2.1]
    refine blX3_finish_456 rfl hw.1.2.2.1 hw.1.2.2.2 (K _ (h2 hw) ?_ ?_ ?_ ?_)
    · exact hR.tr (tI.wi ⟨by decide, by decide⟩)
    · rw [hp_i_sI, if_pos rfl, if_neg (by decide)]; exact h9
    · rw [hp_i_sI, if_pos rfl, if_neg (by decide)]; exact h10
    · rw [hp_i_sI, if_pos rfl, if_pos rfl, Nat.add_comm]
  | succ m ih =>
    intro i G him hw hL hV hT hR h9 h10 h11 K
    have hil : i < (cls S lo hi).length := by omega
    have hl9 := cls_le (S := S) (lo := lo) (l := hi)
    have hx : (cls S lo hi).getD i 0 ∈ cls S lo hi := getD_memN hil
    obtain ⟨⟨x1, x2⟩, x3⟩ := cls_mem.1 hx
    have hg := hcN _ hx
    generalize hxx : (cls S lo hi).getD i 0 = x at hx x1 x2 x3 hg
    have kX : ∀ G, gtw q S X Q kq lo hi t G → hp_kd G (X x) = 21 ∧ hp_r G (X x) 5 = some (qN q (jg_n (S.2 33 x))) := fun G w => by
      have := (w.2.2.1 x x1 x2).1
      exact ⟨by rw [this.1.1, x3]; rfl, (this.2.2.1.2.2.1 x3).1⟩
    have hcC : ∀ G, gtw q S X Q kq lo hi t G → ∀ a, some (X x) = some a → hp_kd G a ≠ 0 ∧ hp_kd G a < 28 ∧ hp_sub (hp_kd G a) "StreamNodes$Call" := fun G w a ha => by
      rw [← Option.some.inj ha, (kX G w).1]
      exact ⟨by decide, by decide, Or.inl rfl⟩
    have getc : ∀ G, gl1 q G t 4 Lc (cls S lo hi).length cc (fun i => some (X ((cls S lo hi).getD i 0))) → wk_C q.1.1 mJ5_get 2 0 [vR (some Lc), vI (nI i)] G (fun v G' => v = some (vR (some (X x))) ∧ G' = G) (fun _ _ _ => False) := fun G u => by
      have := J5_get_C (d := 2) (i := i) u.2.2.1 hil (Nat.le_refl 2)
      rw [hxx] at this
      exact this
    refine blX3_finish_285 hw.1.1 hw.1.2.1 hw.1.2.2.1 hL.1 hL.2.2.1.1.1 (J5_size_C (d := 0) hL.2.2.1) (by show 0 + 1 ≤ D; omega) (Nat.zero_le _) ?_ (fun _ _ _ u => absurd u id)
    rintro v G ⟨rfl, rfl⟩
    refine blX3_finish_296 (fun u => absurd ((nI_leI (by omega) (by omega)).1 u) (by omega)) (fun _ => ?_)
    refine blX3_finish_299 hw.1.1 hw.1.2.1 hw.1.2.2.1 hL.1 hL.2.2.1.1.1 (getc _ hL) (by show 2 + 1 ≤ D; omega) (Nat.zero_le _) ?_ (fun _ _ _ u => absurd u id)
    rintro v G ⟨rfl, rfl⟩
    obtain ⟨t1, t2, t3, t4⟩ := hT _ hg
    refine blX3_finish_324 (hcC _ hw) rfl (kX _ hw).1 (kX _ hw).2 t1 (by show 1 ≤ D; omega) ?_
    rw [h9, t2, mn_add, hw.1.2.1, Nat.add_assoc, ← hxx, ← sT_s hil]
    have hw1 := h2 (j := 9) (v := nI (min (a0 + sT TP S (cls S lo hi) (i + 1)) 1000000)) hw
    have hL1 := gs.wi10 (cm := 0) (cr := 0) (j := 9) (v := nI (min (a0 + sT TP S (cls S lo hi) (i + 1)) 1000000)) hL hw
    have hT1 := hT.wi (j := 9) (v := nI (min (a0 + sT TP S (cls S lo hi) (i + 1)) 1000000)) ht
    have hV1 := hl2 (j := 9) (v := nI (min (a0 + sT TP S (cls S lo hi) (i + 1)) 1000000)) hw hV.2
    have g1 : tI t G (hp_sI G t 9 (nI (min (a0 + sT TP S (cls S lo hi) (i + 1)) 1000000))) := tI.wi ⟨by decide, by decide⟩
    have h10' : hp_i (hp_sI G t 9 (nI (min (a0 + sT TP S (cls S lo hi) (i + 1)) 1000000))) t 10 = nI (min (b0 + sT TC S (cls S lo hi) i) 1000000) := by rw [hp_i_sI, if_pos rfl, if_neg (by decide)]; exact h10
    have h11' : hp_i (hp_sI G t 9 (nI (min (a0 + sT TP S (cls S lo hi) (i + 1)) 1000000))) t 11 = nI (min (sT TA S (cls S lo hi) i) 1000000) := by rw [hp_i_sI, if_pos rfl, if_neg (by decide)]; exact h11
    have h9' : hp_i (hp_sI G t 9 (nI (min (a0 + sT TP S (cls S lo hi) (i + 1)) 1000000))) t 9 = nI (min (a0 + sT TP S (cls S lo hi) (i + 1)) 1000000) := by rw [hp_i_sI, if_pos rfl, if_pos rfl]
    refine blX3_finish_337 rfl hw.1.2.2.1 hw.1.2.2.2 hw.1.1 hw.1.2.1 hw.1.2.2.1 hL.1 hL.2.2.1.1.1 (getc _ hL1) (by show 2 + 1 ≤ D; omega) (Nat.zero_le _) ?_ (fun _ _ _ u => absurd u id)
    rintro v G1 ⟨rfl, rfl⟩
    rw [h10']
    generalize hp_sI G t 9 (nI (min (a0 + sT TP S (cls S lo hi) (i + 1)) 1000000)) = G1 at *
    obtain ⟨u1, u2, u3, u4⟩ := hT1 _ hg
    refine blX3_finish_365 (hcC _ hw1) rfl (kX _ hw1).1 (kX _ hw1).2 u1 (by show 1 ≤ D; omega) ?_
    rw [u3, mn_add, show hp_r G q.1.2.1 10 = some t from hw.1.2.1, Nat.add_assoc, ← hxx, ← sT_s hil]
    have hw2 := h2 (j := 10) (v := nI (min (b0 + sT TC S (cls S lo hi) (i + 1)) 1000000)) hw1
    have hL2 := gs.wi10 (cm := 0) (cr := 0) (j := 10) (v := nI (min (b0 + sT TC S (cls S lo hi) (i + 1)) 1000000)) hL1 hw1
    have hT2 := hT1.wi (j := 10) (v := nI (min (b0 + sT TC S (cls S lo hi) (i + 1)) 1000000)) ht
    have hV2 := hl2 (j := 10) (v := nI (min (b0 + sT TC S (cls S lo hi) (i + 1)) 1000000)) hw1 hV1
    have g2 : tI t G1 (hp_sI G1 t 10 (nI (min (b0 + sT TC S (cls S lo hi) (i + 1)) 1000000))) := tI.wi ⟨by decide, by decide⟩
    have i11 : hp_i (hp_sI G1 t 10 (nI (min (b0 + sT TC S (cls S lo hi) (i + 1)) 1000000))) t 11 = nI (min (sT TA S (cls S lo hi) i) 1000000) := by rw [hp_i_sI, if_pos rfl, if_neg (by decide)]; exact h11'
    have i9 : hp_i (hp_sI G1 t 10 (nI (min (b0 + sT TC S (cls S lo hi) (i + 1)) 1000000))) t 9 = nI (min (a0 + sT TP S (cls S lo hi) (i + 1)) 1000000) := by rw [hp_i_sI, if_pos rfl, if_neg (by decide)]; exact h9'
    have i10 : hp_i (hp_sI G1 t 10 (nI (min (b0 + sT TC S (cls S lo hi) (i + 1)) 1000000))) t 10 = nI (min (b0 + sT TC S (cls S lo hi) (i + 1)) 1000000) := by rw [hp_i_sI, if_pos rfl, if_pos rfl]
    refine blX3_finish_378 rfl hw1.1.2.2.1 hw1.1.2.2.2 hw1.1.1 hw1.1.2.1 hw1.1.2.2.1 hL1.1 hL1.2.2.1.1.1 (getc _ hL2) (by show 2 + 1 ≤ D; omega) (Nat.zero_le _) ?_ (fun _ _ _ u => absurd u id)
    rintro v G2 ⟨rfl, rfl⟩
    rw [i11]
    generalize hp_sI G1 t 10 (nI (min (b0 + sT TC S (cls S lo hi) (i + 1)) 1000000)) = G2 at *
    obtain ⟨w1, w2, w3, w4⟩ := hT2 _ hg
    refine blX3_finish_406 (hcC _ hw2) rfl (kX _ hw2).1 (kX _ hw2).2 w1 (by show 1 ≤ D; omega) ?_
    rw [w4, mn_add, show hp_r G1 q.1.2.1 10 = some t from hw1.1.2.1, ← hxx, ← sT_s hil]
    refine blX3_finish_419 rfl hw2.1.2.2.1 hw2.1.2.2.2 ?_
    rw [nI_1]
    refine ih (i + 1) _ (by omega) (h2 hw2) (gs.wi10 (cm := 0) (cr := 0) hL2 hw2) ⟨?_, hl2 hw2 hV2⟩ (hT2.wi ht) (((hR.tr g1).tr g2).tr (tI.wi ⟨by decide, by decide⟩)) ?_ ?_ ?_ K
    · show hp_r G2 t 1 = some Lv
      rw [g2.2.1, g1.2.1]; exact hV.1
    · rw [hp_i_sI, if_pos rfl, if_neg (by decide)]; exact i9
    · rw [hp_i_sI, if_pos rfl, if_neg (by decide)]; exact i10
    · rw [hp_i_sI, if_pos rfl, if_pos rfl]
end
