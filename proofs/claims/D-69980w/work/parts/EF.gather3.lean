/-! THE COMPONENT's finish: gather, its ends -/
set_option maxRecDepth 100000
section
variable {q : PZ} {S : MS} {X Q kq : Nat → Nat} {lo hi n t Lc Lm Lr k : Nat} {G G0 G1 G2 G' : GH}
/-- the three lists differ -/
def l3 (Lc Lm Lr : Nat) : Prop := Lc ≠ Lm ∧ Lc ≠ Lr ∧ Lm ≠ Lr
/-- what gather leaves: from the expression l on up to before l' -/
def gaP (q : PZ) (S : MS) (X Q kq : Nat → Nat) (lo hi t Lc Lm Lr l l' cc cm cr : Nat) (G G' : GH) : Prop := ∃ cc' cm' cr', gs q S X Q kq lo t Lc Lm Lr l' cc' cm' cr' G' ∧ gtr S X lo hi t Lc Lm Lr G G' ∧ gpot S lo l' cc' cm' cr' ≤ gpot S lo l cc cm cr + 4 * (l' - l) ∧ cb (4 * (l' - l) + gpot S lo l cc cm cr - gpot S lo l' cc' cm' cr') G G'
/-- nothing to note at e -/
theorem gs.none {e cc cm cr : Nat} (h : gs q S X Q kq lo t Lc Lm Lr e cc cm cr G) (hle : lo ≤ e) (h3 : S.2 32 e ≠ 3) (hM : ¬ isM (S.2 32 e)) : gs q S X Q kq lo t Lc Lm Lr (e + 1) cc cm cr G ∧ gpot S lo (e + 1) cc cm cr = gpot S lo e cc cm cr := by
  have e1 : cls S lo (e + 1) = cls S lo e := by rw [cls_s hle, if_neg h3, List.append_nil]
  have e2 : mes S lo (e + 1) = mes S lo e := by rw [mes_s hle, if_neg hM, List.append_nil]
  obtain ⟨a1, a2, a3, a4, a5⟩ := h
  refine ⟨⟨by rw [e1]; exact a1, by rw [e2]; exact a2, by rw [e1]; exact a3, fun x x1 x2 => ?_, ?_⟩, by unfold gpot; rw [e1, e2]⟩
  · by_cases u : x = e
    · rw [u]; exact ⟨fun w => absurd w h3, fun w => absurd w hM⟩
    · exact a4 x x1 (by omega)
  · rw [a5, show e + 1 - lo = (e - lo) + 1 by omega, nx_t, show lo + (e - lo) = e by omega]
    have : nx_s (S.2 32 e) = 0 := by
      unfold nx_s
      rw [if_neg (fun u => hM (by rcases u with u | u | u; exact Or.inl u; exact Or.inr (Or.inl u); exact Or.inr (Or.inr (Or.inr u)))), if_neg (fun u => hM (Or.inr (Or.inr (Or.inl u))))]
    rw [this]; rfl
theorem gaP.none {l e cc cm cr : Nat} (h : gaP q S X Q kq lo hi t Lc Lm Lr l e cc cm cr G0 G) (hle : lo ≤ e) (hl : l ≤ e) (h3 : S.2 32 e ≠ 3) (hM : ¬ isM (S.2 32 e)) : gaP q S X Q kq lo hi t Lc Lm Lr l (e + 1) cc cm cr G0 G := by
  obtain ⟨cc', cm', cr', h1, h2, h3', h4⟩ := h
  obtain ⟨g1, g2⟩ := h1.none hle h3 hM
  exact ⟨cc', cm', cr', g1, h2, by rw [g2]; omega, by rw [g2]; exact h4.mono (by omega)⟩
/-- behind the number and one list's growth -/
theorem gs.mid {e cc cm cr nu m c : Nat} {v : Int32} {L : Nat} {el : Nat → Option Nat} (hw : gtw q S X Q kq lo hi t G) (hle : lo ≤ e) (hei : e < hi) (h : gs q S X Q kq lo t Lc Lm Lr e cc cm cr G) (hnu : nuf (S.2 32 e) = nu) (hL : L = Lc ∨ L = Lm ∨ L = Lr) (kL : hp_kd G L = 22) (hp1 : al_p q.1.1 (hp_sI G (X e) nu v) L m c el (some (X e)) G1) :
    gtw q S X Q kq lo hi t G1 ∧ (∀ k L' m' c' el', gl1 q G t k L' m' c' el' → L' ≠ L → gl1 q G1 t k L' m' c' el') := by
  obtain ⟨a1, a2, a3, a4, a5⟩ := id h
  have kc := a1.2.2.1.1.1
  have km := a2.2.2.1.1.1
  have kr := a3.2.2.1.1.1
  have kX := hw.k hle hei
  have g1 : gtr S X lo hi t Lc Lm Lr G (hp_sI G (X e) nu v) := by have := gtr.num (Lc := Lc) (Lm := Lm) (Lr := Lr) (v := v) hle hei hw; rw [hnu] at this; exact this
  have f1 : cf (fun y => y = X e) G (hp_sI G (X e) nu v) := cf.rf.sI (Or.inl rfl)
  have w1 := hw.gr0 g1 ⟨a1.2.1, kc⟩ ⟨a2.2.1, km⟩ ⟨a3.2.1, kr⟩
  have g2 : gtr S X lo hi t Lc Lm Lr (hp_sI G (X e) nu v) G1 := gtr.add w1 hL kL hp1.2.1
  refine ⟨w1.gr0 g2 ⟨a1.2.1, kc⟩ ⟨a2.2.1, km⟩ ⟨a3.2.1, kr⟩, fun k L' m' c' el' u1 u2 => ?_⟩
  have kL' := u1.2.2.1.1.1
  have u3 := u1.fr f1 rfl (fun y w1 w2 => by have := al_ok w1 kL'; rw [w2] at this; omega)
  exact u3.fr hp1.2.1 g2.2.2.1 (fun y w1 w2 => al_dis2 u2 (by exact kL') (by exact kL) w1 (al_wo w2))
/-- e is a call: its number, then it and its equation in the lists -/
theorem gs.call {e cc cm cr : Nat} (hw : gtw q S X Q kq lo hi t G) (hne : l3 Lc Lm Lr) (hle : lo ≤ e) (hei : e < hi) (h : gs q S X Q kq lo t Lc Lm Lr e cc cm cr G) (h3 : S.2 32 e = 3) (hk : kq e = k)
    (hp1 : al_p q.1.1 (hp_sI G (X e) 8 (nI (cls S lo e).length)) Lc (cls S lo e).length cc (fun i => some (X ((cls S lo e).getD i 0))) (some (X e)) G1) (hp2 : al_p q.1.1 G1 Lr (cls S lo e).length cr (fun i => some (Q (kq ((cls S lo e).getD i 0)))) (some (Q k)) G2) :
    gs q S X Q kq lo t Lc Lm Lr (e + 1) (al_c (cls S lo e).length cc) cm (al_c (cls S lo e).length cr) G2 ∧ gtr S X lo hi t Lc Lm Lr G G2 ∧ gl1 q G1 t 6 Lr (cls S lo e).length cr (fun i => some (Q (kq ((cls S lo e).getD i 0)))) := by
  obtain ⟨a1, a2, a3, a4, a5⟩ := id h
  have kc := a1.2.2.1.1.1
  have km := a2.2.2.1.1.1
  have kr := a3.2.2.1.1.1
  have kt := hw.1.2.2.1
  have kX := hw.k hle hei
  have nu : nuf (S.2 32 e) = 8 := by rw [h3]; rfl
  have nM : ¬ isM (S.2 32 e) := by rw [h3]; decide
  have g1 : gtr S X lo hi t Lc Lm Lr G (hp_sI G (X e) 8 (nI (cls S lo e).length)) := by have := gtr.num (Lc := Lc) (Lm := Lm) (Lr := Lr) (v := nI (cls S lo e).length) hle hei hw; rw [nu] at this; exact this
  have f1 : cf (fun y => y = X e) G (hp_sI G (X e) 8 (nI (cls S lo e).length)) := cf.rf.sI (Or.inl rfl)
  have lx : ∀ L, hp_kd G L = 22 → ∀ y, al_o G L y → ¬ y = X e := fun L kL y u w => by have := al_ok u kL; rw [w] at this; omega
  have b1 := a1.fr f1 rfl (lx Lc kc)
  have b2 := a2.fr f1 rfl (lx Lm km)
  have b3 := a3.fr f1 rfl (lx Lr kr)
  have w1 := hw.gr0 g1 ⟨a1.2.1, kc⟩ ⟨a2.2.1, km⟩ ⟨a3.2.1, kr⟩
  have c1 := b1.push kt hp1
  have o1 : ∀ L, hp_kd (hp_sI G (X e) 8 (nI (cls S lo e).length)) L = 22 → L ≠ Lc → ∀ y, al_o (hp_sI G (X e) 8 (nI (cls S lo e).length)) L y → ¬ al_w (hp_sI G (X e) 8 (nI (cls S lo e).length)) Lc (cls S lo e).length cc y := fun L kL hn y u w => al_dis2 hn kL (by exact kc) u (al_wo w)
  have g2 : gtr S X lo hi t Lc Lm Lr (hp_sI G (X e) 8 (nI (cls S lo e).length)) G1 := gtr.add w1 (Or.inl rfl) kc hp1.2.1
  have c2 := b2.fr hp1.2.1 g2.2.2.1 (o1 Lm km hne.1.symm)
  have c3 := b3.fr hp1.2.1 g2.2.2.1 (o1 Lr kr hne.2.1.symm)
  have kt1 : hp_kd G1 t = 8 := g2.1.k kt (by decide)
  have kc1 : hp_kd G1 Lc = 22 := c1.2.2.1.1.1
  have km1 : hp_kd G1 Lm = 22 := c2.2.2.1.1.1
  have kr1 : hp_kd G1 Lr = 22 := c3.2.2.1.1.1
  have w2 := w1.gr0 g2 ⟨b1.2.1, kc⟩ ⟨b2.2.1, km⟩ ⟨b3.2.1, kr⟩
  have g3 : gtr S X lo hi t Lc Lm Lr G1 G2 := gtr.add w2 (Or.inr (Or.inr rfl)) kr1 hp2.2.1
  have d3 := c3.push kt1 hp2
  have o2 : ∀ L, hp_kd G1 L = 22 → L ≠ Lr → ∀ y, al_o G1 L y → ¬ al_w G1 Lr (cls S lo e).length cr y := fun L kL hn y u w => al_dis2 hn kL kr1 u (al_wo w)
  have d1 := c1.fr hp2.2.1 g3.2.2.1 (o2 Lc kc1 hne.2.1)
  have d2 := c2.fr hp2.2.1 g3.2.2.1 (o2 Lm km1 hne.2.2)
  have e1 : cls S lo (e + 1) = cls S lo e ++ [e] := by rw [cls_s hle, if_pos h3]
  have e2 : mes S lo (e + 1) = mes S lo e := by rw [mes_s hle, if_neg nM, List.append_nil]
  have el : (cls S lo (e + 1)).length = (cls S lo e).length + 1 := by rw [e1, List.length_append]; rfl
  have gg := (g1.tr g2).tr g3
  have i3 : ∀ x j, lo ≤ x → x < e → hp_i G2 (X x) j = hp_i G (X x) j := fun x j x1 x2 => by
    have hX := hw.k x1 (by omega)
    have s1 : hp_i (hp_sI G (X e) 8 (nI (cls S lo e).length)) (X x) j = hp_i G (X x) j := by rw [hp_i_sI, if_neg (hw.inj x1 (by omega) hle hei (by omega))]
    have n1 : ¬ al_w (hp_sI G (X e) 8 (nI (cls S lo e).length)) Lc (cls S lo e).length cc (X x) := fun u => by have : hp_kd G (X x) = 22 ∨ hp_kd G (X x) = 32 := al_ok (al_wo u) kc; omega
    have kx1 : hp_kd G1 (X x) = hp_kd G (X x) := g2.1.kd (show hp_kd G (X x) ≠ 0 by omega)
    have n2 : ¬ al_w G1 Lr (cls S lo e).length cr (X x) := fun u => by have := al_ok (al_wo u) kr1; omega
    rw [hp2.2.1.i (by omega) n2, hp1.2.1.i (show hp_kd G (X x) ≠ 0 by omega) n1, s1]
  have i4 : hp_i G2 (X e) 8 = nI (cls S lo e).length := by
    have n1 : ¬ al_w (hp_sI G (X e) 8 (nI (cls S lo e).length)) Lc (cls S lo e).length cc (X e) := fun u => by have : hp_kd G (X e) = 22 ∨ hp_kd G (X e) = 32 := al_ok (al_wo u) kc; omega
    have kx1 : hp_kd G1 (X e) = hp_kd G (X e) := g2.1.kd (show hp_kd G (X e) ≠ 0 by omega)
    have n2 : ¬ al_w G1 Lr (cls S lo e).length cr (X e) := fun u => by have := al_ok (al_wo u) kr1; omega
    rw [hp2.2.1.i (by omega) n2, hp1.2.1.i (show hp_kd G (X e) ≠ 0 by omega) n1, hp_i_sI, if_pos rfl, if_pos rfl]
  have i5 : hp_i G2 t 10 = hp_i G t 10 := by
    have nX : ¬ t = X e := fun w => by rw [w] at kt; omega
    have n1 : ¬ al_w (hp_sI G (X e) 8 (nI (cls S lo e).length)) Lc (cls S lo e).length cc t := fun u => by have : hp_kd G t = 22 ∨ hp_kd G t = 32 := al_ok (al_wo u) kc; omega
    have n2 : ¬ al_w G1 Lr (cls S lo e).length cr t := fun u => by have := al_ok (al_wo u) kr1; omega
    rw [hp2.2.1.i (by omega) n2, hp1.2.1.i (show hp_kd G t ≠ 0 by omega) n1, hp_i_sI, if_neg nX]
  refine ⟨⟨?_, by rw [e2]; exact d2, ?_, fun x x1 x2 => ?_, ?_⟩, gg, c3⟩
  · rw [el]
    refine d1.cg (fun i hi => ?_)
    rw [e1, ls_getD_app]
    show some (X (if i = (cls S lo e).length then e else _)) = if i = (cls S lo e).length then some (X e) else _
    split <;> rfl
  · rw [el]
    refine d3.cg (fun i hi => ?_)
    rw [e1, ls_getD_app]
    show some (Q (kq (if i = (cls S lo e).length then e else _))) = if i = (cls S lo e).length then some (Q k) else _
    split
    · rw [hk]
    · rfl
  · by_cases u : x = e
    · rw [u]
      exact ⟨fun _ => i4, fun w => absurd w nM⟩
    · have := a4 x x1 (by omega)
      rw [i3 x 8 x1 (by omega), i3 x _ x1 (by omega)]
      exact this
  · rw [i5, a5, show e + 1 - lo = (e - lo) + 1 by omega, nx_t, show lo + (e - lo) = e by omega, h3]
    rfl
/-- e has a memory -/
theorem gs.mem {e cc cm cr : Nat} (hw : gtw q S X Q kq lo hi t G) (hne : l3 Lc Lm Lr) (hle : lo ≤ e) (hei : e < hi) (h : gs q S X Q kq lo t Lc Lm Lr e cc cm cr G) (hM : isM (S.2 32 e))
    (hp1 : al_p q.1.1 (hp_sI G (X e) (nuf (S.2 32 e)) (nI (mes S lo e).length)) Lm (mes S lo e).length cm (fun i => some (X ((mes S lo e).getD i 0))) (some (X e)) G1) {z : Int32} (hz : z = if S.2 32 e = 6 then 2 else 1) :
    gs q S X Q kq lo t Lc Lm Lr (e + 1) cc (al_c (mes S lo e).length cm) cr (hp_sI G1 t 10 (hp_i G1 t 10 + z)) ∧ gtr S X lo hi t Lc Lm Lr G (hp_sI G1 t 10 (hp_i G1 t 10 + z)) := by
  obtain ⟨a1, a2, a3, a4, a5⟩ := id h
  have kc := a1.2.2.1.1.1
  have km := a2.2.2.1.1.1
  have kr := a3.2.2.1.1.1
  have kt := hw.1.2.2.1
  have kX := hw.k hle hei
  have n3 : S.2 32 e ≠ 3 := fun u => by rw [u] at hM; exact absurd hM (by decide)
  generalize hnu : nuf (S.2 32 e) = nu at hp1
  have g1 : gtr S X lo hi t Lc Lm Lr G (hp_sI G (X e) nu (nI (mes S lo e).length)) := by have := gtr.num (Lc := Lc) (Lm := Lm) (Lr := Lr) (v := nI (mes S lo e).length) hle hei hw; rw [hnu] at this; exact this
  have f1 : cf (fun y => y = X e) G (hp_sI G (X e) nu (nI (mes S lo e).length)) := cf.rf.sI (Or.inl rfl)
  have lx : ∀ L, hp_kd G L = 22 → ∀ y, al_o G L y → ¬ y = X e := fun L kL y u w => by have := al_ok u kL; rw [w] at this; omega
  have b1 := a1.fr f1 rfl (lx Lc kc)
  have b2 := a2.fr f1 rfl (lx Lm km)
  have b3 := a3.fr f1 rfl (lx Lr kr)
  have w1 := hw.gr0 g1 ⟨a1.2.1, kc⟩ ⟨a2.2.1, km⟩ ⟨a3.2.1, kr⟩
  have c2 := b2.push kt hp1
  have o1 : ∀ L, hp_kd (hp_sI G (X e) nu (nI (mes S lo e).length)) L = 22 → L ≠ Lm → ∀ y, al_o (hp_sI G (X e) nu (nI (mes S lo e).length)) L y → ¬ al_w (hp_sI G (X e) nu (nI (mes S lo e).length)) Lm (mes S lo e).length cm y := fun L kL hn y u w => al_dis2 hn kL (by exact km) u (al_wo w)
  have g2 : gtr S X lo hi t Lc Lm Lr (hp_sI G (X e) nu (nI (mes S lo e).length)) G1 := gtr.add w1 (Or.inr (Or.inl rfl)) km hp1.2.1
  have c1 := b1.fr hp1.2.1 g2.2.2.1 (o1 Lc kc hne.1)
  have c3 := b3.fr hp1.2.1 g2.2.2.1 (o1 Lr kr hne.2.2.symm)
  have kt1 : hp_kd G1 t = 8 := g2.1.k kt (by decide)
  have kc1 : hp_kd G1 Lc = 22 := c1.2.2.1.1.1
  have km1 : hp_kd G1 Lm = 22 := c2.2.2.1.1.1
  have kr1 : hp_kd G1 Lr = 22 := c3.2.2.1.1.1
  have w2 := w1.gr0 g2 ⟨b1.2.1, kc⟩ ⟨b2.2.1, km⟩ ⟨b3.2.1, kr⟩
  have g3 : gtr S X lo hi t Lc Lm Lr G1 (hp_sI G1 t 10 (hp_i G1 t 10 + z)) := gtr.cnt w2
  have f3 : cf (fun y => y = t) G1 (hp_sI G1 t 10 (hp_i G1 t 10 + z)) := cf.rf.sI (Or.inl rfl)
  have lt : ∀ L, hp_kd G1 L = 22 → ∀ y, al_o G1 L y → ¬ y = t := fun L kL y u w => by have := al_ok u kL; rw [w, kt1] at this; omega
  have d1 := c1.fr f3 rfl (lt Lc kc1)
  have d2 := c2.fr f3 rfl (lt Lm km1)
  have d3 := c3.fr f3 rfl (lt Lr kr1)
  have e1 : cls S lo (e + 1) = cls S lo e := by rw [cls_s hle, if_neg n3, List.append_nil]
  have e2 : mes S lo (e + 1) = mes S lo e ++ [e] := by rw [mes_s hle, if_pos hM]
  have el : (mes S lo (e + 1)).length = (mes S lo e).length + 1 := by rw [e2, List.length_append]; rfl
  have i3 : ∀ x j, lo ≤ x → x < e → hp_i (hp_sI G1 t 10 (hp_i G1 t 10 + z)) (X x) j = hp_i G (X x) j := fun x j x1 x2 => by
    have hX := hw.k x1 (by omega)
    have s1 : hp_i (hp_sI G (X e) nu (nI (mes S lo e).length)) (X x) j = hp_i G (X x) j := by rw [hp_i_sI, if_neg (hw.inj x1 (by omega) hle hei (by omega))]
    have n1 : ¬ al_w (hp_sI G (X e) nu (nI (mes S lo e).length)) Lm (mes S lo e).length cm (X x) := fun u => by have : hp_kd G (X x) = 22 ∨ hp_kd G (X x) = 32 := al_ok (al_wo u) km; omega
    rw [hp_i_sI, if_neg (fun w => by rw [← w] at kt; omega), hp1.2.1.i (show hp_kd G (X x) ≠ 0 by omega) n1, s1]
  have i4 : hp_i (hp_sI G1 t 10 (hp_i G1 t 10 + z)) (X e) nu = nI (mes S lo e).length := by
    have n1 : ¬ al_w (hp_sI G (X e) nu (nI (mes S lo e).length)) Lm (mes S lo e).length cm (X e) := fun u => by have : hp_kd G (X e) = 22 ∨ hp_kd G (X e) = 32 := al_ok (al_wo u) km; omega
    rw [hp_i_sI, if_neg (fun w => by rw [← w] at kt; omega), hp1.2.1.i (show hp_kd G (X e) ≠ 0 by omega) n1, hp_i_sI, if_pos rfl, if_pos rfl]
  have i5 : hp_i G1 t 10 = hp_i G t 10 := by
    have nX : ¬ t = X e := fun w => by rw [w] at kt; omega
    have n1 : ¬ al_w (hp_sI G (X e) nu (nI (mes S lo e).length)) Lm (mes S lo e).length cm t := fun u => by have : hp_kd G t = 22 ∨ hp_kd G t = 32 := al_ok (al_wo u) km; omega
    rw [hp1.2.1.i (show hp_kd G t ≠ 0 by omega) n1, hp_i_sI, if_neg nX]
  refine ⟨⟨by rw [e1]; exact d1, ?_, by rw [e1]; exact d3, fun x x1 x2 => ?_, ?_⟩, (g1.tr g2).tr g3⟩
  · rw [el]
    refine d2.cg (fun i hi => ?_)
    rw [e2, ls_getD_app]
    show some (X (if i = (mes S lo e).length then e else _)) = if i = (mes S lo e).length then some (X e) else _
    split <;> rfl
  · by_cases u : x = e
    · rw [u, hnu]
      exact ⟨fun w => absurd w n3, fun _ => i4⟩
    · have := a4 x x1 (by omega)
      rw [i3 x 8 x1 (by omega), i3 x _ x1 (by omega)]
      exact this
  · rw [hp_i_sI, if_pos rfl, if_pos rfl, i5, a5, show e + 1 - lo = (e - lo) + 1 by omega, nx_t, show lo + (e - lo) = e by omega, ← nI_add, hz]
    congr 1
    rcases hM with u | u | u | u <;> rw [u] <;> rfl
end
