/-! THE COMPONENT's finish: parts, gather, the loop -/
set_option maxRecDepth 100000
section
variable {q : PZ} {S : MS} {X Q kq : Nat → Nat} {lo hi n t Lc Lm Lr k k0 : Nat} {G G0 G1 G2 G' : GH} {Pp : Nat → Nat}
/-- how many parts -/
theorem parts_C (hpw : pw S lo hi) (hh : hi ≤ 5000) : ∀ m e d G, xh S e < m → lo ≤ e → e < hi → gtw q S X Q kq lo hi t G → xh S e + 3 ≤ d → wk_C q.1.1 (vt_parts (hp_kd G (X e))) d 0 [vR (some (X e))] G (fun v G' => v = some (vI (nI (e + 1 - lw (S.2 34) e))) ∧ G' = G) (fun _ _ _ => False) := by
  intro m
  induction m with
  | zero => intro e d G hm; omega
  | succ m ih =>
    intro e d G hm h1 h2 hw hd
    obtain ⟨⟨g1, g2⟩, g3⟩ := hw.hts hpw hh h1 h2
    obtain ⟨hlo, y0⟩ := hpw e h1 h2
    obtain ⟨y1, y2, y3⟩ := y0.kl (by omega)
    have hlen := pw_k_len _ _ y2
    have kd := (hw.2.2.1 e h1 h2).1.1.1
    have hk := hw.k h1 h2
    rcases Classical.em (3 ≤ S.2 32 e) with h3 | h3
    · have kX : 15 ≤ hp_kd G (X e) ∧ hp_kd G (X e) ≤ 21 := by
        have h0 : ¬ (S.2 32 e = 0 ∨ S.2 32 e = 1) := by rintro (u | u) <;> rw [u] at h3 <;> exact absurd h3 (by decide)
        have h02 : ¬ S.2 32 e = 2 := fun u => by rw [u] at h3; exact absurd h3 (by decide)
        refine ⟨?_, hk.2⟩
        rw [kd]
        unfold xk
        rw [if_neg h0, if_neg h02]
        repeat' split
        all_goals decide
      have ev : vt_parts (hp_kd G (X e)) = mX12_parts := by
        have : hp_kd G (X e) = 15 ∨ hp_kd G (X e) = 16 ∨ hp_kd G (X e) = 17 ∨ hp_kd G (X e) = 18 ∨ hp_kd G (X e) = 19 ∨ hp_kd G (X e) = 20 ∨ hp_kd G (X e) = 21 := by omega
        rcases this with u | u | u | u | u | u | u <;> rw [u]
        · exact vt_parts_15
        · exact vt_parts_16
        · exact vt_parts_17
        · exact vt_parts_18
        · exact vt_parts_19
        · exact vt_parts_20
        · exact vt_parts_21
      rw [ev]
      obtain ⟨L, c, r3, hal⟩ := hw.kids hpw hh h1 h2 h3
      refine wk_C_of (by decide) rfl (Nat.le_of_ble_eq_true rfl) ?_
      refine blX12_parts_0 ?_
      have loop : ∀ (rest ds : List Nat) (l : Nat), ds ++ rest = kls S e → pw_k (lw (S.2 34)) l rest e → lw (S.2 34) e ≤ l → wk_V q.1.1 mX12_parts (d, 0, (fun v G' => v = some (vI (nI (e + 1 - lw (S.2 34) e))) ∧ G' = G), (fun _ _ _ => False), hp_cs G, hp_ss G) 4 [(0, vR (some (X e))), (1, vI (nI (1 + (l - lw (S.2 34) e)))), (2, vI (nI ds.length))] [] G 0 := by
        intro rest
        induction rest with
        | nil =>
          intro ds l hds hpk hl
          rw [List.append_nil] at hds
          have el : l = e := hpk
          subst hds
          refine blX12_parts_4 kX r3 hal.1.1 (J5_size_C (d := 0) hal) (by show 0 + 1 ≤ d; omega) (Nat.zero_le _) ?_ (fun _ _ _ u => absurd u id)
          rintro v G9 ⟨rfl, rfl⟩
          refine blX12_parts_12 (fun _ => blX12_parts_38 ⟨?_, rfl⟩) (fun u => absurd (nI_le (Nat.le_refl _) (by omega)) u)
          rw [el, show 1 + (e - lw (S.2 34) e) = e + 1 - lw (S.2 34) e by omega]
        | cons k rest ihr =>
          intro ds l hds hpk hl
          obtain ⟨p1, p2, p3, p4⟩ := hpk
          have hll : ds.length < (kls S e).length := by rw [← hds, List.length_append, List.length_cons]; omega
          have hgk : (kls S e).getD ds.length 0 = k := by rw [← hds, List.getD_eq_getElem?_getD, List.getElem?_append_right (Nat.le_refl _), Nat.sub_self]; rfl
          refine blX12_parts_4 kX r3 hal.1.1 (J5_size_C (d := 0) hal) (by show 0 + 1 ≤ d; omega) (Nat.zero_le _) ?_ (fun _ _ _ u => absurd u id)
          rintro v G9 ⟨rfl, rfl⟩
          refine blX12_parts_12 (fun u => absurd ((nI_leI (by omega) (by omega)).1 u) (by omega)) (fun _ => ?_)
          refine blX12_parts_15 kX r3 hal.1.1 (J5_get_C (d := 2) (i := ds.length) hal hll (Nat.le_refl 2)) (by show 2 + 1 ≤ d; omega) (Nat.zero_le _) ?_ (fun _ _ _ u => absurd u id)
          rintro v G9 ⟨rfl, rfl⟩
          rw [hgk]
          have hmem : k ∈ kls S e := by rw [← hds]; simp
          obtain ⟨u1, u2, u3⟩ := g3 k hmem
          have kk := hw.k (e := k) (by omega) (by omega)
          refine vkX12_parts_24 (hcE kk) rfl kk (ih k (xh S e + 2) _ (by omega) u1 (by omega) hw (by omega)) (by show xh S e + 2 + 1 ≤ d; omega) (Nat.zero_le _) ?_ (fun _ _ _ u => absurd u id)
          rintro v G9 ⟨rfl, rfl⟩
          refine blX12_parts_30 ?_
          rw [nI_1, nI_add, p1, show 1 + (l - lw (S.2 34) e) + (k + 1 - l) = 1 + (k + 1 - lw (S.2 34) e) by omega, show ds.length + 1 = (ds ++ [k]).length by rw [List.length_append]; rfl]
          exact ihr _ _ (by rw [← hds]; simp) p4 (by omega)
      have h9 := loop (kls S e) [] (lw (S.2 34) e) rfl y2 (Nat.le_refl _)
      rw [Nat.sub_self] at h9
      exact h9
    · have h012 : S.2 32 e = 0 ∨ S.2 32 e = 1 ∨ S.2 32 e = 2 := by
        rcases y3 with ⟨s, -⟩ | ⟨s, -⟩ | ⟨s, -⟩ | ⟨s, -⟩ | ⟨s, -⟩ | ⟨s, s2, -⟩ | ⟨s, s2, -⟩ | ⟨s, -⟩
        · exact Or.inl s
        · exact Or.inr (Or.inl s)
        · exact Or.inr (Or.inr s)
        · exact absurd (by rw [s]; decide) h3
        · exact absurd (by rw [s]; decide) h3
        · exact absurd (Int32.le_trans (by decide) s) h3
        · exact absurd (Int32.le_trans (by decide) s) h3
        · exact absurd (by rw [s]; decide) h3
      have e0 : kls S e = [] := by
        have : (kls S e).length = 0 := by
          unfold pw_s at y3
          rcases h012 with u | u | u <;> rw [u] at y3
          · rcases y3 with ⟨-, w⟩ | ⟨w, -⟩ | ⟨w, -⟩ | ⟨w, -⟩ | ⟨w, -⟩ | ⟨w, -⟩ | ⟨w, -⟩ | ⟨w, -⟩ <;> first | exact w | exact absurd w (by decide)
          · rcases y3 with ⟨w, -⟩ | ⟨-, w, -⟩ | ⟨w, -⟩ | ⟨w, -⟩ | ⟨w, -⟩ | ⟨w, -⟩ | ⟨w, -⟩ | ⟨w, -⟩ <;> first | exact w | exact absurd w (by decide)
          · rcases y3 with ⟨w, -⟩ | ⟨w, -⟩ | ⟨-, w, -⟩ | ⟨w, -⟩ | ⟨w, -⟩ | ⟨w, -⟩ | ⟨w, -⟩ | ⟨w, -⟩ <;> first | exact w | exact absurd w (by decide)
        exact List.length_eq_zero_iff.1 this
      rw [e0] at y2
      have el : lw (S.2 34) e = e := y2
      have one : (1 : Int32) = nI (e + 1 - lw (S.2 34) e) := by rw [el, show e + 1 - e = 1 by omega]; rfl
      rcases h012 with u | u | u
      · rw [show hp_kd G (X e) = 13 by rw [kd, u]; rfl, vt_parts_13]
        refine wk_C_of (by decide) rfl (Nat.le_of_ble_eq_true rfl) (wk_sub [] trivial (blX18_parts_0 ⟨by rw [one], rfl⟩))
      · rw [show hp_kd G (X e) = 13 by rw [kd, u]; rfl, vt_parts_13]
        refine wk_C_of (by decide) rfl (Nat.le_of_ble_eq_true rfl) (wk_sub [] trivial (blX18_parts_0 ⟨by rw [one], rfl⟩))
      · rw [show hp_kd G (X e) = 14 by rw [kd, u]; rfl, vt_parts_14]
        refine wk_C_of (by decide) rfl (Nat.le_of_ble_eq_true rfl) (wk_sub [] trivial (blX19_parts_0 ⟨by rw [one], rfl⟩))
/-- what gather and the sums change -/
def gt2 (S : MS) (X : Nat → Nat) (lo hi t Lc Lm Lr : Nat) (G G' : GH) : Prop := cf (fun y => (∃ e, lo ≤ e ∧ e < hi ∧ y = X e) ∨ y = t ∨ al_o G Lc y ∨ al_o G Lm y ∨ al_o G Lr y) G G' ∧ (∀ e, lo ≤ e → e < hi → hp_r G' (X e) = hp_r G (X e) ∧ ∀ k, k ≠ nuf (S.2 32 e) → hp_i G' (X e) k = hp_i G (X e) k) ∧ hp_r G' t = hp_r G t ∧ ∀ k, ¬ (9 ≤ k ∧ k ≤ 11) → hp_i G' t k = hp_i G t k
theorem gtr.to2 (h : gtr S X lo hi t Lc Lm Lr G G') : gt2 S X lo hi t Lc Lm Lr G G' := ⟨h.1, h.2.1, h.2.2.1, fun k hk => h.2.2.2 k (by omega)⟩
theorem gt2.tr (h : gt2 S X lo hi t Lc Lm Lr G G1) (h2 : gt2 S X lo hi t Lc Lm Lr G1 G2) : gt2 S X lo hi t Lc Lm Lr G G2 :=
  ⟨h.1.tr2 h2.1 (fun y hy u => u.imp id (fun u => u.imp id (fun u => u.imp (al_o.back h.1 hy) (fun u => u.imp (al_o.back h.1 hy) (al_o.back h.1 hy))))), fun e a b => ⟨((h2.2.1 e a b).1).trans (h.2.1 e a b).1, fun k hk => ((h2.2.1 e a b).2 k hk).trans ((h.2.1 e a b).2 k hk)⟩, h2.2.2.1.trans h.2.2.1, fun k hk => (h2.2.2.2 k hk).trans (h.2.2.2 k hk)⟩
theorem gt2.rf : gt2 S X lo hi t Lc Lm Lr G G := gtr.rf.to2
theorem gt2.wi {j : Nat} {v : Int32} (hj : 9 ≤ j ∧ j ≤ 11) (hw : gtw q S X Q kq lo hi t G) : gt2 S X lo hi t Lc Lm Lr G (hp_sI G t j v) := by
  refine ⟨cf.rf.sI (Or.inl (Or.inr (Or.inl rfl))), fun e u1 u2 => ⟨rfl, fun k _ => ?_⟩, rfl, fun k hk => ?_⟩
  · have kX := hw.k u1 u2
    rw [hp_i_sI, if_neg (fun w => by have := hw.1.2.2.1; rw [← w] at this; omega)]
  · rw [hp_i_sI, if_pos rfl, if_neg (by omega)]
theorem gtw.gr2 (h : gtw q S X Q kq lo hi t G) (hr : gt2 S X lo hi t Lc Lm Lr G G') (hc : ow G Lc t ∧ hp_kd G Lc = 22) (hm : ow G Lm t ∧ hp_kd G Lm = 22) (hl : ow G Lr t ∧ hp_kd G Lr = 22) : gtw q S X Q kq lo hi t G' := by
  obtain ⟨⟨a1, a2, a3, a4⟩, b, c, d⟩ := id h
  have hko : ∀ y, ((∃ e, lo ≤ e ∧ e < hi ∧ y = X e) ∨ y = t ∨ al_o G Lc y ∨ al_o G Lm y ∨ al_o G Lr y) → (13 ≤ hp_kd G y ∧ hp_kd G y ≤ 21) ∨ hp_kd G y = 8 ∨ hp_kd G y = 22 ∨ hp_kd G y = 32 := by
    rintro y (⟨e, u1, u2, rfl⟩ | rfl | u | u | u)
    · exact Or.inl (h.k u1 u2)
    · exact Or.inr (Or.inl a3)
    · have := al_ok u hc.2; omega
    · have := al_ok u hm.2; omega
    · have := al_ok u hl.2; omega
  have nR : ¬ ((∃ e, lo ≤ e ∧ e < hi ∧ q.1.2.1 = X e) ∨ q.1.2.1 = t ∨ al_o G Lc q.1.2.1 ∨ al_o G Lm q.1.2.1 ∨ al_o G Lr q.1.2.1) := fun u => by have := hko _ u; omega
  refine ⟨⟨hr.1.k a1 (by decide), by rw [hr.1.r (by rw [a1]; decide) nR]; exact a2, hr.1.k a3 (by decide), a4⟩, b.fr hr.1, fun e u1 u2 => ⟨(c e u1 u2).1.gr0 hr.1 (hr.2.1 e u1 u2).1 (hr.2.1 e u1 u2).2 (fun L w1 w2 y w3 w4 => ?_), (c e u1 u2).2⟩, fun e u1 u2 => hr.1.k (d e u1 u2) (by decide)⟩
  have kX := h.k u1 u2
  have ky := al_ok w3 w2
  have ne : X e ≠ t := fun w => by rw [w, a3] at kX; omega
  rcases w4 with ⟨e', v1, v2, v3⟩ | v | v | v | v
  · have := h.k v1 v2; rw [← v3] at this; omega
  · rw [v, a3] at ky; omega
  · exact al_dis w1 hc.1 ne w2 hc.2 y w3 v
  · exact al_dis w1 hm.1 ne w2 hm.2 y w3 v
  · exact al_dis w1 hl.1 ne w2 hl.2 y w3 v
/-- gather's lists under a write of the node's ints -/
theorem gs.wi {l cc cm cr j : Nat} {v : Int32} (h : gs q S X Q kq lo t Lc Lm Lr l cc cm cr G) (hw : gtw q S X Q kq lo hi t G) (hl : l ≤ hi) (hj : j ≠ 10) : gs q S X Q kq lo t Lc Lm Lr l cc cm cr (hp_sI G t j v) := by
  obtain ⟨a1, a2, a3, a4, a5⟩ := h
  have kt := hw.1.2.2.1
  have f : cf (fun y => y = t) G (hp_sI G t j v) := cf.rf.sI (Or.inl rfl)
  have lt : ∀ L, hp_kd G L = 22 → ∀ y, al_o G L y → ¬ y = t := fun L kL y u w => by have := al_ok u kL; rw [w, kt] at this; omega
  refine ⟨a1.fr f rfl (lt Lc a1.2.2.1.1.1), a2.fr f rfl (lt Lm a2.2.2.1.1.1), a3.fr f rfl (lt Lr a3.2.2.1.1.1), fun x x1 x2 => ?_, by rw [hp_i_sI, if_pos rfl, if_neg (Ne.symm hj)]; exact a5⟩
  have kX := hw.k x1 (by omega : x < hi)
  have e : ∀ m, hp_i (hp_sI G t j v) (X x) m = hp_i G (X x) m := fun m => by rw [hp_i_sI, if_neg (fun w => by rw [← w] at kt; omega)]
  rw [e, e]
  exact a4 x x1 x2
/-- the equations' list at this stage -/
def ge (q : PZ) (S : MS) (X Q : Nat → Nat) (t Le ce k0 : Nat) (G : GH) : Prop := (hp_r G t 3 = some Le ∧ ow G Le t ∧ al q.1.1 G Le (pr_k S - k0) ce (fun i => some (Q (k0 + i)))) ∧ ∀ k, k0 ≤ k → k < pr_k S → hp_kd G (Q k) = 7 ∧ hp_r G (Q k) 1 = some (X (jg_n (S.2 27 k)))
theorem ge.gt {Le ce : Nat} (h : ge q S X Q t Le ce k0 G) (hw : gtw q S X Q kq lo hi t G) (hr : gt2 S X lo hi t Lc Lm Lr G G') (hc : ow G Lc t ∧ hp_kd G Lc = 22) (hm : ow G Lm t ∧ hp_kd G Lm = 22) (hl : ow G Lr t ∧ hp_kd G Lr = 22) (hne : Le ≠ Lc ∧ Le ≠ Lm ∧ Le ≠ Lr) : ge q S X Q t Le ce k0 G' := by
  obtain ⟨⟨h1, h2, h3⟩, h4⟩ := h
  have kt := hw.1.2.2.1
  have kL := h3.1.1
  have hko : ∀ y, ((∃ e, lo ≤ e ∧ e < hi ∧ y = X e) ∨ y = t ∨ al_o G Lc y ∨ al_o G Lm y ∨ al_o G Lr y) → (13 ≤ hp_kd G y ∧ hp_kd G y ≤ 21) ∨ hp_kd G y = 8 ∨ hp_kd G y = 22 ∨ hp_kd G y = 32 := by
    rintro y (⟨e, u1, u2, rfl⟩ | rfl | u | u | u)
    · exact Or.inl (hw.k u1 u2)
    · exact Or.inr (Or.inl kt)
    · have := al_ok u hc.2; omega
    · have := al_ok u hm.2; omega
    · have := al_ok u hl.2; omega
  have nL : ∀ y, al_o G Le y → ¬ ((∃ e, lo ≤ e ∧ e < hi ∧ y = X e) ∨ y = t ∨ al_o G Lc y ∨ al_o G Lm y ∨ al_o G Lr y) := by
    intro y u
    have ky := al_ok u kL
    rintro (⟨e, u1, u2, u3⟩ | v | v | v | v)
    · have := hw.k u1 u2; rw [← u3] at this; omega
    · rw [v, kt] at ky; omega
    · exact al_dis2 hne.1 kL hc.2 u v
    · exact al_dis2 hne.2.1 kL hm.2 u v
    · exact al_dis2 hne.2.2 kL hl.2 u v
  refine ⟨⟨by rw [hr.2.2.1]; exact h1, h2.cg (hr.1.lg (by rw [kL]; decide)), h3.fr hr.1 (nL Le (Or.inl rfl)) (fun y hy hk => nL y (Or.inr ⟨hy, hk⟩))⟩, fun k u1 u2 => ?_⟩
  obtain ⟨a, b⟩ := h4 k u1 u2
  exact ⟨hr.1.k a (by decide), by rw [hr.1.r (by rw [a]; decide) (fun u => by have := hko _ u; omega)]; exact b⟩
end
section
variable {q : PZ} {S : MS} {X Q kq : Nat → Nat} {lo hi n t Lc Lm Lr k0 Le ce : Nat} {G00 G0 : GH} {Pp : Nat → Nat} {D B cs ss : Nat} {Pt : Option WV → GH → Prop} {PX : String → Nat → GH → Prop}
/-- the loop over the equations: parts, gather -/
theorem X3_fin_4 {A : Nat} (hD : 220 ≤ D) (hpw : pw S lo hi) (hh : hi ≤ 5000) (hk0 : k0 ≤ pr_k S) (hk5 : pr_k S ≤ 5000) (hne : l3 Lc Lm Lr) (hne2 : Le ≠ Lc ∧ Le ≠ Lm ∧ Le ≠ Lr) (hPz : Pp (pr_k S) = hi) (hmo : ∀ a b, k0 ≤ a → a ≤ b → b ≤ pr_k S → Pp a ≤ Pp b) (hP0 : Pp k0 = lo)
    (hP : ∀ k, k0 ≤ k → k < pr_k S → Pp k < Pp (k + 1) ∧ jg_n (S.2 27 k) = Pp (k + 1) - 1 ∧ lw (S.2 34) (Pp (k + 1) - 1) = Pp k) (hkq : ∀ k, k0 ≤ k → k < pr_k S → ∀ x, Pp k ≤ x → x < Pp (k + 1) → kq x = k)
    (K : ∀ G cc cm cr, gtw q S X Q kq lo hi t G → gs q S X Q kq lo t Lc Lm Lr hi cc cm cr G → gt2 S X lo hi t Lc Lm Lr G0 G → hp_i G t 9 = nI (pr_k S - k0 + (hi - lo)) → hp_i G t 11 = hp_i G0 t 11 → wk_V q.1.1 mX3_finish (D, B, Pt, PX, cs, ss) 283 [(0, vR (some q.1.2.1))] [] G A) :
    ∀ m k G cc cm cr, k0 ≤ k → k + m = pr_k S → gtw q S X Q kq lo hi t G → gs q S X Q kq lo t Lc Lm Lr (Pp k) cc cm cr G → ge q S X Q t Le ce k0 G → gt2 S X lo hi t Lc Lm Lr G0 G → hp_i G t 9 = nI (k - k0 + (Pp k - lo)) → hp_i G t 11 = hp_i G0 t 11 →
      wk_V q.1.1 mX3_finish (D, B, Pt, PX, cs, ss) 209 [(0, vR (some q.1.2.1)), (2, vI (nI (k - k0)))] [] G (4 * (hi - Pp k) + gpot S lo (Pp k) cc cm cr + A) := by
  intro m
  induction m with
  | zero =>
    intro k G cc cm cr hk1 hk hw hS hE hR h9 h11
    have e : k = pr_k S := hk
    obtain ⟨⟨l1, l2, l3⟩, l4⟩ := id hE
    refine blX3_finish_209 hw.1.1 hw.1.2.1 hw.1.2.2.1 l1 l3.1.1 (J5_size_C (d := 0) l3) (by show 0 + 1 ≤ D; omega) (Nat.zero_le _) ?_ (fun _ _ _ u => absurd u id)
    rintro v G ⟨rfl, rfl⟩
    refine blX3_finish_220 (fun _ => ?_) (fun u => absurd ((nI_leI (by omega) (by omega)).2 (by omega)) u)
    subst e
    rw [hPz] at hS h9
    exact wk_less (by omega) (K _ _ _ _ hw hS hR h9 h11)
  | succ m ih =>
    intro k G cc cm cr hk1 hk hw hS hE hR h9 h11
    have hkn : k < pr_k S := by omega
    obtain ⟨⟨l1, l2, l3⟩, l4⟩ := id hE
    obtain ⟨q1, q2⟩ := l4 k hk1 hkn
    obtain ⟨p1, p2, p3⟩ := hP k hk1 hkn
    have mo1 := hmo k0 k (Nat.le_refl _) hk1 (by omega)
    have mo2 := hmo (k + 1) (pr_k S) (by omega) (by omega) (Nat.le_refl _)
    rw [p2] at q2
    have b1 : lo ≤ Pp (k + 1) - 1 := by omega
    have b2 : Pp (k + 1) - 1 < hi := by omega
    refine blX3_finish_209 hw.1.1 hw.1.2.1 hw.1.2.2.1 l1 l3.1.1 (J5_size_C (d := 0) l3) (by show 0 + 1 ≤ D; omega) (Nat.zero_le _) ?_ (fun _ _ _ u => absurd u id)
    rintro v G ⟨rfl, rfl⟩
    refine blX3_finish_220 (fun u => absurd ((nI_leI (by omega) (by omega)).1 u) (by omega)) (fun _ => ?_)
    refine blX3_finish_223 hw.1.1 hw.1.2.1 hw.1.2.2.1 l1 l3.1.1 (J5_get_C (d := 2) (i := k - k0) l3 (by omega) (Nat.le_refl 2)) (by show 2 + 1 ≤ D; omega) (Nat.zero_le _) ?_ (fun _ _ _ u => absurd u id)
    rintro v G ⟨rfl, rfl⟩
    rw [show k0 + (k - k0) = k by omega]
    obtain ⟨⟨hn1, hn2⟩, -⟩ := hw.hts hpw hh b1 b2
    refine vkX3_finish_234 (fun y hy => by rw [← Option.some.inj hy, q1]; exact ⟨by decide, by decide, Or.inl rfl⟩) hw.1.1 hw.1.2.1 hw.1.2.2.1 rfl q1 q2 (hw.k b1 b2) (parts_C hpw hh (xh S (Pp (k + 1) - 1) + 1) _ 205 _ (Nat.lt_succ_self _) b1 b2 hw (by omega)) (by show 205 + 1 ≤ D; omega) (Nat.zero_le _) ?_ (fun _ _ _ u => absurd u id)
    rintro v G ⟨rfl, rfl⟩
    refine blX3_finish_261 (by show 1 ≤ D; omega) ?_
    have e9 : hp_i G t 9 + 1 + nI (Pp (k + 1) - 1 + 1 - lw (S.2 34) (Pp (k + 1) - 1)) = nI (k + 1 - k0 + (Pp (k + 1) - lo)) := by
      rw [h9, p3, nI_1, nI_add]
      congr 1
      omega
    rw [e9, if_pos (show nI (k + 1 - k0 + (Pp (k + 1) - lo)) < 1000000 from nI_lt (b := 1000000) (by omega) (by decide)), hw.1.2.1]
    have gi : gt2 S X lo hi t Lc Lm Lr G (hp_sI G t 9 (nI (k + 1 - k0 + (Pp (k + 1) - lo)))) := gt2.wi ⟨by decide, by decide⟩ hw
    have hwi := hw.gr2 gi ⟨hS.1.2.1, hS.1.2.2.1.1.1⟩ ⟨hS.2.1.2.1, hS.2.1.2.2.1.1.1⟩ ⟨hS.2.2.1.2.1, hS.2.2.1.2.2.1.1.1⟩
    have hSi := hS.wi (j := 9) (v := nI (k + 1 - k0 + (Pp (k + 1) - lo))) hw (by omega : Pp k ≤ hi) (by decide)
    have hEi := hE.gt hw gi ⟨hS.1.2.1, hS.1.2.2.1.1.1⟩ ⟨hS.2.1.2.1, hS.2.1.2.2.1.1.1⟩ ⟨hS.2.2.1.2.1, hS.2.2.1.2.2.1.1.1⟩ hne2
    have hgc := X3_gather_C (q := q) (Q := Q) (kq := kq) (t := t) (X := X) hpw hh hne (xh S (Pp (k + 1) - 1) + 1) (Pp (k + 1) - 1) 210 cc cm cr k (hp_sI G t 9 (nI (k + 1 - k0 + (Pp (k + 1) - lo)))) (Nat.lt_succ_self _) b1 b2 hwi (by rw [p3]; exact hSi) (fun x x1 x2 => hkq k hk1 hkn x (by omega) (by omega)) (by omega)
    rw [p3, show Pp (k + 1) - 1 + 1 = Pp (k + 1) by omega] at hgc
    refine wk_have fun hA9 hB9 => ?_
    refine blX3_finish_265 rfl hw.1.2.2.1 hw.1.2.2.2 rfl q1 hw.1.1 (by rw [q2]; exact hgc) (by show 210 + 1 ≤ D; omega) (by show _ ≤ 4 * (hi - Pp k) + gpot S lo (Pp k) cc cm cr + A - 0 - 0 - 0; omega) ?_ (fun _ _ _ u => absurd u id)
    rintro v G2 ⟨rfl, cc2, cm2, cr2, s1, s2, s3, s4⟩
    have hcb : cb (4 * (Pp (k + 1) - Pp k) + gpot S lo (Pp k) cc cm cr - gpot S lo (Pp (k + 1)) cc2 cm2 cr2) G G2 := s4
    refine wk_bk hA9 hB9 hcb (r' := 4 * (hi - Pp (k + 1)) + gpot S lo (Pp (k + 1)) cc2 cm2 cr2 + A) (by show _ ≤ 4 * (hi - Pp k) + gpot S lo (Pp k) cc cm cr + A - 0 - 0 - 0; omega) ?_
    refine blX3_finish_277 ?_
    rw [nI_1, show k - k0 + 1 = k + 1 - k0 by omega]
    have hw2 := hwi.gr0 s2 ⟨hSi.1.2.1, hSi.1.2.2.1.1.1⟩ ⟨hSi.2.1.2.1, hSi.2.1.2.2.1.1.1⟩ ⟨hSi.2.2.1.2.1, hSi.2.2.1.2.2.1.1.1⟩
    have gg := gi.tr s2.to2
    have hE2 := hEi.gt hwi s2.to2 ⟨hSi.1.2.1, hSi.1.2.2.1.1.1⟩ ⟨hSi.2.1.2.1, hSi.2.1.2.2.1.1.1⟩ ⟨hSi.2.2.1.2.1, hSi.2.2.1.2.2.1.1.1⟩ hne2
    refine ih (k + 1) G2 cc2 cm2 cr2 (by omega) (by omega) hw2 s1 hE2 (hR.tr gg) ?_ ?_
    · rw [s2.2.2.2 9 (by decide), hp_i_sI, if_pos rfl, if_pos rfl]
    · rw [s2.2.2.2 11 (by decide), hp_i_sI, if_pos rfl, if_neg (by decide)]; exact h11
end
