/-! HashMap.resize -/
set_option maxRecDepth 100000
section
variable {w : WD} {d : Nat} {G G' : GH} {a t n k j : Nat} {C : List Nat} {L : Nat → List Nat} {V : Nat → Nat}
theorem hn.of {own : Nat → Prop} {x v : Nat} {l : List Nat} (h : hn w G a x l v) (hf : cf own G G') (hst : ∀ b m, st w G b m → st w G' b m) (hl : hp_l G' x = hp_l G x) (hi : hp_i G' x 0 = hp_i G x 0) (h1 : hp_r G' x 1 = hp_r G x 1) (h2 : hp_r G' x 2 = hp_r G x 2) : hn w G' a x l v := by
  obtain ⟨n1, n2, n3, n4, ⟨key, n5, n6⟩, n7, n8, n9⟩ := h
  exact ⟨by rw [hf.kd (by omega)]; exact n1, n2, n3.cg hl, hi.trans n4, ⟨key, h1.trans n5, hst _ _ n6⟩, h2.trans n7, hf.ne n8, by rw [hf.kd n8]; exact n9⟩
/-- the old place was emptied before -/
theorem sq_of {G2 : GH} (kt : hp_kd G t = 35) (kn : hp_kd G n = 35) (tn : t ≠ n) (hC : ∀ x ∈ C, hp_kd G x ≠ 35) (h : sp_P w (hp_sR G t j none) a n k j C L V G2) : sq_P w G a t n k j C L V G2 := by
  obtain ⟨s1, s2, s3, s4, s5⟩ := h
  have nt : ¬ (t ∈ C ∨ t = n) := fun u => u.elim (fun v => hC t v kt) tn
  refine ⟨s1, s2, ((cf.rf (own := fun x => x ∈ C ∨ x = n ∨ x = t)).sR (Or.inl (Or.inr (Or.inr rfl)))).tr (s3.mono (fun x _ u => u.imp id Or.inl)), fun i h1 h2 => ?_, s5, fun i hi => ?_⟩
  · rw [s4 i h1 h2, hp_r_sR, if_neg tn.symm]
  · rw [s3.r (by rw [hp_kd_sR, kt]; decide) nt, hp_r_sR, if_pos rfl, if_neg hi]
/-- a bin of one node -/
theorem sp_one {e : Nat} (kn : hp_kd G n = 35) (hk : k ≤ 10) (hj : j < 2 ^ k) (h : hbn w G a k L V j [e]) (he : hp_r G e 3 = none) (n0 : hp_r G n j = none ∧ hp_r G n (j + 2 ^ k) = none) : sp_P w G a n k j [e] L V (hp_sR G n (hix (k + 1) (hx (L e))) (some e)) := by
  obtain ⟨h1, h2, h3⟩ := h
  obtain ⟨n1, n2⟩ := h2 e List.mem_cons_self
  have ke := n1.1
  have en : e ≠ n := fun u => by rw [u, kn] at ke; omega
  have ipos : 0 < 2 ^ k := Nat.two_pow_pos k
  have f1 : ∀ i, cf (fun x => x = n) G (hp_sR G n i (some e)) := fun i => cf.rf.sR (Or.inl rfl)
  have st1 : ∀ i b m, st w G b m → st w (hp_sR G n i (some e)) b m := fun i b m u => st_cf (f1 i) (fun x hx => by rw [hx, kn]; exact ⟨by decide, by decide⟩) u
  have re : ∀ i, hp_r (hp_sR G n i (some e)) e = hp_r G e := fun i => by
    funext q
    rw [hp_r_sR, if_neg en]
  have one : ∀ i, hix (k + 1) (hx (L e)) = i → bk w (hp_sR G n i (some e)) a (k + 1) i (some e) (fun l v => ∃ x, x ∈ [e] ∧ L x = l ∧ V x = v) 1 := by
    intro i hi
    refine ⟨[e], L, V, ⟨rfl, by rw [re]; exact he⟩, ⟨h1, fun x hx => ?_, ?_⟩, fun x hx y hy _ => (List.mem_singleton.1 hx).trans (List.mem_singleton.1 hy).symm, fun l v => Iff.rfl, rfl⟩
    · rw [List.mem_singleton.1 hx]
      exact ⟨n1.fr (f1 i) (st1 i) en, hi⟩
    · rcases h3 with h3 | ⟨r, xs, ps, lo, hi', q1, q2, q3, q4⟩
      · exact Or.inl h3
      · have rr : ∀ x ∈ [e], hp_r (hp_sR G n i (some e)) x = hp_r G x := fun x hx => by rw [List.mem_singleton.1 hx]; exact re i
        exact Or.inr ⟨r, xs, ps, lo, hi', q1, hpv.fr _ _ rr q2, q3.fr (fun x hx => ⟨rfl, rr x hx⟩), q4⟩
  have b := hix_bit (k := k) (h := hx (L e)) (by omega)
  by_cases q : hx (L e) &&& nI (2 ^ k) = 0
  · have ei : hix (k + 1) (hx (L e)) = j := (b.1 q).trans n2
    have e1 : fl k L [e] = [e] := by unfold fl; simp [q]
    have e2 : fh k L [e] = [] := by unfold fh; simp [q]
    rw [ei]
    refine ⟨?_, ?_, (f1 j).mono (fun _ _ u => Or.inr u), fun i hi _ => by rw [hp_r_sR, if_pos rfl, if_neg hi], rfl⟩
    · rw [e1, hp_r_sR, if_pos rfl, if_pos rfl]; exact one j ei
    · exact bk_empty (by rw [hp_r_sR, if_pos rfl, if_neg (by omega)]; exact n0.2) e2
  · have ei : hix (k + 1) (hx (L e)) = j + 2 ^ k := by rw [b.2 q, n2]
    have e1 : fl k L [e] = [] := by unfold fl; simp [q]
    have e2 : fh k L [e] = [e] := by unfold fh; simp [q]
    rw [ei]
    refine ⟨?_, ?_, (f1 _).mono (fun _ _ u => Or.inr u), fun i _ hi => by rw [hp_r_sR, if_pos rfl, if_neg hi], rfl⟩
    · exact bk_empty (by rw [hp_r_sR, if_pos rfl, if_neg (by omega)]; exact n0.1) e1
    · rw [e2, hp_r_sR, if_pos rfl, if_pos rfl]; exact one _ ei
/-- a bin of plain nodes -/
theorem sp_plain {G2 : GH} (kn : hp_kd G n = 35) (h : hbn w G a k L V j C) (h24 : ∀ x ∈ C, hp_kd G x = 24) (hk : k ≤ 10) (hinj : ∀ x ∈ C, ∀ y ∈ C, L x = L y → x = y) (b1 : hch G2 (hp_r G2 n j) (fl k L C)) (b2 : hch G2 (hp_r G2 n (j + 2 ^ k)) (fh k L C)) (b3 : cf (fun x => x ∈ C ∨ x = n) G G2) (b4 : ∀ x i, x ≠ n → i ≠ 3 → hp_r G2 x i = hp_r G x i) (b5 : ∀ x, hp_i G2 x = hp_i G x) (b6 : ∀ x, hp_l G2 x = hp_l G x) (b7 : ∀ i, i ≠ j → i ≠ j + 2 ^ k → hp_r G2 n i = hp_r G n i) : sp_P w G a n k j C L V G2 := by
  have st2 : ∀ b m, st w G b m → st w G2 b m := fun b m u => st_cf b3 (fun x hx => by
    rcases hx with hx | hx
    · rw [h24 x hx]; exact ⟨by decide, by decide⟩
    · rw [hx, kn]; exact ⟨by decide, by decide⟩) u
  have hh : ∀ x ∈ C, hn w G2 a x (L x) (V x) := fun x hx => by
    have xn : x ≠ n := fun e => by have := h24 x hx; rw [e, kn] at this; cases this
    exact (h.2.1 x hx).1.of b3 st2 (b6 x) (by rw [b5]) (b4 x 1 xn (by decide)) (b4 x 2 xn (by decide))
  have k24 : ∀ x ∈ C, hp_kd G2 x = 24 := fun x hx => by rw [b3.kd (by rw [h24 x hx]; decide)]; exact h24 x hx
  refine ⟨⟨fl k L C, L, V, b1, ⟨List.Pairwise.filter _ h.1, fun x hx => ?_, Or.inl fun x hx => k24 x (fl_mem.1 hx).1⟩, fun x hx y hy => hinj x (fl_mem.1 hx).1 y (fl_mem.1 hy).1, fun l v => Iff.rfl, rfl⟩, ⟨fh k L C, L, V, b2, ⟨List.Pairwise.filter _ h.1, fun x hx => ?_, Or.inl fun x hx => k24 x (fh_mem.1 hx).1⟩, fun x hx y hy => hinj x (fh_mem.1 hx).1 y (fh_mem.1 hy).1, fun l v => Iff.rfl, rfl⟩, b3, b7, b6 n⟩
  · obtain ⟨u1, u2⟩ := fl_mem.1 hx
    exact ⟨hh x u1, by rw [(hix_bit (by omega)).1 u2]; exact (h.2.1 x u1).2⟩
  · obtain ⟨u1, u2⟩ := fh_mem.1 hx
    exact ⟨hh x u1, by rw [(hix_bit (by omega)).2 u2, (h.2.1 x u1).2]⟩
theorem rz_main {P : Option WV → GH → Prop} {b : Nat} {E : Nat → List Nat → Nat → Prop} {u : Nat → Nat} {th : Int32} {cs ss : Nat} (ka : hp_kd G a = 23) (kt : hp_kd G t = 35) (tA : hp_A w t) (lt : hp_ln G t = 2 ^ k) (qn : hp_kd G n = 0) (nA : hp_A w n) (hk : k ≤ 10) (hcmp : cmp_o w) (hd : 25 ≤ d) (hP : ∀ G1, rz_I w G a t n k E u th (2 ^ k) G1 → P (some (vR (some n))) G1) (hu : ∀ i, i < 2 ^ k → u i < 2 ^ 20) :
    ∀ rem j G1 r, j + rem = 2 ^ k → rz_I w G a t n k E u th j G1 → sg u rem j ≤ r → wk_V w mJ7_resize (d, b, P, (fun _ _ _ => False), cs, ss) 151 [(0, vR (some a)), (1, vR (some t)), (2, vI (nI (2 ^ k))), (4, vI (nI (2 ^ (k + 1)))), (6, vR (some n)), (7, vI (nI j))] [] G1 r := by
  have hp2 : 2 ^ k ≤ 2 ^ 10 := Nat.pow_le_pow_right (by decide) hk
  have hp3 : 2 ^ (k + 1) = 2 ^ k + 2 ^ k := by rw [Nat.pow_succ]; omega
  have ipos : 0 < 2 ^ k := Nat.two_pow_pos k
  have tn : t ≠ n := fun e => by rw [e, qn] at kt; cases kt
  intro rem
  induction rem with
  | zero =>
    intro j G1 r hj hI hr
    have ej : j = 2 ^ k := by omega
    rw [ej] at hI ⊢
    exact blJ7_resize_151 (fun _ => blJ7_resize_353 (hP G1 hI)) (fun q => absurd (Int32.le_refl _) q)
  | succ rem ih =>
    intro j G1 r hj hI hr
    have hjk : j < 2 ^ k := by omega
    have hI' := hI
    obtain ⟨h1, ⟨h2, h3, h4⟩, h5, h8, h9⟩ := hI'
    have ka1 : hp_kd G1 a = 23 := by rw [h1.kd (by rw [ka]; decide)]; exact ka
    have kt1 : hp_kd G1 t = 35 := by rw [h1.kd (by rw [kt]; decide)]; exact kt
    have lt1 : hp_ln G1 t = 2 ^ k := by rw [h1.ln (by rw [kt]; decide)]; exact lt
    obtain ⟨hb, n1, n2⟩ := h8 j (Nat.le_refl _) hjk
    obtain ⟨C, L, V, c1, c2, c3, c4, c5⟩ := hb
    have esg : sg u (rem + 1) j = u j + sg u rem (j + 1) := by
      rw [Nat.add_comm rem 1, sg_add]
      show 0 + u (j + 0) + sg u rem (j + 1) = _
      rw [Nat.zero_add, Nat.add_zero]
    have cl : (nI j).toNatClampNeg = j := nI_clamp (by omega)
    have hkd : ∀ x ∈ C, 24 ≤ hp_kd G1 x ∧ hp_kd G1 x ≤ 25 := fun x hx => (c2.2.1 x hx).1.1
    have k35 : ∀ x ∈ C, hp_kd G1 x ≠ 35 := fun x hx => by have := hkd x hx; omega
    have next : ∀ G2 r', sq_P w G1 a t n k j C L V G2 → sg u rem (j + 1) ≤ r' → wk_V w mJ7_resize (d, b, P, (fun _ _ _ => False), cs, ss) 347 [(0, vR (some a)), (1, vR (some t)), (2, vI (nI (2 ^ k))), (4, vI (nI (2 ^ (k + 1)))), (6, vR (some n)), (7, vI (nI j))] [] G2 r' := by
      intro G2 r' hs hr'
      refine blJ7_resize_347 ?_
      rw [nI_1]
      exact ih (j + 1) G2 r' (by omega) (hI.step ka kt qn hk hjk c2 c4 c5 hs) hr'
    refine blJ7_resize_151 (fun q => ?_) (fun _ => ?_)
    · rw [Int32.le_iff_toInt_le, nI_toInt (by omega), nI_toInt (by omega)] at q
      omega
    refine blJ7_resize_157 rfl (by rw [lt1]; exact vp_in_nI hjk (by omega)) (by rw [kt1]; decide) (fun e => ?_) (fun e he => ?_)
    · rw [cl] at e
      have eC : C = [] := by
        cases C with
        | nil => rfl
        | cons y ys => have := c1.1; rw [e] at this; cases this
      have f1 : fl k L C = [] := by rw [eC]; rfl
      have f2 : fh k L C = [] := by rw [eC]; rfl
      exact next G1 r ⟨bk_empty n1 f1, bk_empty n2 f2, cf.rf, fun _ _ _ => rfl, rfl, fun _ _ => rfl⟩ (by omega)
    · rw [cl] at he ⊢
      rw [he]
      obtain ⟨ys, eC⟩ : ∃ ys, C = e :: ys := by
        cases C with
        | nil => have u : hp_r G1 t j = none := c1; rw [u] at he; cases he
        | cons y ys => exact ⟨ys, by rw [Option.some.inj (he.symm.trans c1.1)]⟩
      have eC1 : e ∈ C := by rw [eC]; exact List.mem_cons_self
      have et : e ≠ t := fun v => by have := hkd e eC1; rw [v, kt1] at this; omega
      have ke := hkd e eC1
      have f1 : cf (fun x => x = t) G1 (hp_sR G1 t j none) := cf.rf.sR (Or.inl rfl)
      have nt : ∀ x ∈ C, x ≠ t := fun x hx v => by have := hkd x hx; rw [v, kt1] at this; omega
      have rr : ∀ x ∈ C, hp_r (hp_sR G1 t j none) x = hp_r G1 x := fun x hx => by
        funext i
        rw [hp_r_sR, if_neg (nt x hx)]
      have st1 : ∀ b m, st w G1 b m → st w (hp_sR G1 t j none) b m := fun b m v => st_cf f1 (fun x hx => by rw [hx, kt1]; exact ⟨by decide, by decide⟩) v
      have hc : hch (hp_sR G1 t j none) (some e) C := by rw [← he]; exact hch.fr _ _ rr c1
      have hb' : hbn w (hp_sR G1 t j none) a k L V j C := by
        refine ⟨c2.1, fun x hx => ⟨(c2.2.1 x hx).1.fr f1 st1 (nt x hx), (c2.2.1 x hx).2⟩, ?_⟩
        rcases c2.2.2 with h3 | ⟨r, xs, ps, lo, hi', q1, q2, q3, q4⟩
        · exact Or.inl h3
        · exact Or.inr ⟨r, xs, ps, lo, hi', q1, hpv.fr _ _ rr q2, q3.fr (fun x hx => ⟨rfl, rr x hx⟩), q4⟩
      have n0 : hp_r (hp_sR G1 t j none) n j = none ∧ hp_r (hp_sR G1 t j none) n (j + 2 ^ k) = none := by
        constructor
        · rw [hp_r_sR, if_neg tn.symm]; exact n1
        · rw [hp_r_sR, if_neg tn.symm]; exact n2
      refine blJ7_resize_167 rfl (by rw [lt1]; exact vp_in_nI hjk (by omega)) tA (by rw [kt1]; decide) (by rw [kt1]; rfl) (fun b hb => by cases hb) rfl ke (fun y hy => ?_) (fun hn => ?_)
      · rw [cl] at hy ⊢
        rcases hb'.2.2 with h24 | hT
        · refine blJ7_resize_198 (v1 := 0) (Or.inr ⟨e, rfl, by show hp_kd G1 e ≠ 0; omega, by show hp_kd G1 e < 28; omega, Or.inr ⟨rfl, ?_⟩⟩) (fun _ => ?_) (fun q => absurd rfl q)
          · have k0 : hp_kd (hp_sR G1 t j none) e = 24 := h24 e eC1
            rw [k0]; decide +kernel
          · refine rz_plain (L := L) h2 nA h3 hk hjk eC hc hb'.1 (fun x hx => ⟨h24 x hx, (hb'.2.1 x hx).1.2.1, (hb'.2.1 x hx).1.2.2.2.1⟩) n0 (fun G2 b1 b2 b3 b4 b5 b6 b7 => ?_)
            exact next G2 r (sq_of kt1 h2 tn k35 (sp_plain (G := hp_sR G1 t j none) h2 hb' h24 hk c3 b1 b2 b3 b4 b5 b6 b7)) (by omega)
        · have k0 : hp_kd (hp_sR G1 t j none) e = 25 := by
            obtain ⟨r, xs, ps, lo, hi', -, -, q3, -⟩ := hT
            exact (q3.2 e eC1).1
          refine blJ7_resize_198 (v1 := 1) (Or.inr ⟨e, rfl, by rw [k0]; decide, by rw [k0]; decide, Or.inl ⟨rfl, by rw [k0]; exact Or.inl rfl⟩⟩) (fun q => absurd q (by decide)) (fun _ => ?_)
          refine blJ7_resize_206 (fun y hy => ?_) rfl k0 (J26_split_C (d := 24) (a := a) ka1 h2 nA h3 hk hjk n0 eC hb' hc hT c3 (by rw [c5]; exact hu j hjk) hcmp (Nat.le_refl 24)) hd (by rw [c5]; omega) ?_ (fun _ _ _ q => absurd q id)
          · rw [← Option.some.inj hy, k0]
            exact ⟨by decide, by decide, Or.inl rfl⟩
          · rintro v G2 ⟨rfl, hs⟩
            exact blJ7_resize_220 (next G2 _ (sq_of kt1 h2 tn k35 hs) (by rw [c5]; omega))
      · rw [cl] at hn ⊢
        have hn' : hp_r (hp_sR G1 t j none) e 3 = none := hn
        have ey : ys = [] := by
          have hc2 := hc
          rw [eC] at hc2
          have := hc2.2
          rw [hn'] at this
          cases ys with
          | nil => rfl
          | cons y ys => cases this.1
        rw [ey] at eC
        subst eC
        have e0 := (hb'.2.1 e List.mem_cons_self).1.2.2.2.1
        have idx : hp_i (hp_sR G1 t j none) e 0 &&& (nI (2 ^ (k + 1)) - 1) = nI (hix (k + 1) (hx (L e))) := by
          rw [e0, Int32.and_comm]
          exact hix_and (by omega)
        have hl := hix_lt (k := k + 1) (h := hx (L e))
        have cl3 : (nI (hix (k + 1) (hx (L e)))).toNatClampNeg = hix (k + 1) (hx (L e)) := nI_clamp (by omega)
        refine blJ7_resize_180 rfl ke rfl (by rw [idx]; show vp_in _ (hp_ln G1 n); rw [h3]; exact vp_in_nI hl (by omega)) nA (by show 32 ≤ hp_kd G1 n; rw [h2]; decide) (by show hp_at (hp_kd G1 n) = _; rw [h2]; rfl) (fun b hb => ?_) ?_
        · rw [← Option.some.inj hb]
          show hp_kd G1 e ≠ 0 ∧ hp_kd G1 e < 28 ∧ hp_sub (hp_kd G1 e) _
          have : hp_kd G1 e = 24 ∨ hp_kd G1 e = 25 := by omega
          rcases this with v | v
          · rw [v]; exact ⟨by decide, by decide, Or.inl rfl⟩
          · rw [v]; exact ⟨by decide, by decide, Or.inr (by decide)⟩
        · rw [idx, cl3]
          exact next _ r (sq_of kt1 h2 tn k35 (sp_one (G := hp_sR G1 t j none) h2 hk hjk hb' hn' n0)) (by omega)
end
