/-! treeifyBin: the contract -/
set_option maxRecDepth 100000
section
variable {w : WD} {d : Nat} {G : GH} {a t k i : Nat}
theorem J7_treeifyBin_C {N : Nat} {m : List Nat → Option Nat} {hh : Int32} (h : hmt w G a N m) (e2 : hp_r G a 2 = some t) (hNb : N < 2 ^ 20) (hcmp : cmp_o w) (hd : 26 ≤ d) : wk_C w mJ7_treeifyBin d (22 + N) [vR (some a), vR (some t), vI hh] G (fun v G' => v = none ∧ hp_r G' a 2 ≠ none ∧ hmt w G' a N m ∧ hp_i G' a 4 = hp_i G a 4 ∧ cf (hm_o G a) G G') (fun _ _ _ => False) := by
  obtain ⟨k, E, u, hb, kt, tA, ot, lt, hk4, hk8, e6, hsum, hm, hEi⟩ := h.bins e2
  have ka := h.1.1
  have aA := h.1.2
  have hp2 : 2 ^ k ≤ 2 ^ 8 := Nat.pow_le_pow_right (by decide) hk8
  have ta : t ≠ a := fun e => by rw [e, ka] at kt; cases kt
  refine wk_C_of (by decide) rfl (Nat.le_of_ble_eq_true rfl) ?_
  refine blJ7_treeifyBin_0 (fun e => by cases e) (fun _ _ => ?_)
  refine blJ7_treeifyBin_4 rfl (by rw [kt]; decide) (fun _ => ?_) (fun q => ?_)
  · rw [lt]
    have ei : (nI (2 ^ k) - 1) &&& hh = nI (hix k hh) := hix_and (by omega)
    have hl := hix_lt (k := k) (h := hh)
    have cl : (nI (hix k hh)).toNatClampNeg = hix k hh := nI_clamp (by omega)
    refine blJ7_treeifyBin_21 rfl (by rw [ei, lt]; exact vp_in_nI hl (by omega)) (by rw [kt]; decide) (fun e => ?_) (fun x hfx => ?_)
    · exact blJ7_treeifyBin_109 ⟨rfl, by rw [e2]; exact (fun e => by cases e), h, rfl, cf.rf⟩
    · rw [ei, cl] at hfx ⊢
      rw [hfx]
      obtain ⟨C, L, V, c1, c2, c3, c4, c5⟩ := hb _ hl
      obtain ⟨ys, eC⟩ : ∃ ys, C = x :: ys := by
        cases C with
        | nil => have v : hp_r G t (hix k hh) = none := c1; rw [v] at hfx; cases hfx
        | cons y ys => exact ⟨ys, by rw [Option.some.inj (hfx.symm.trans c1.1)]⟩
      have hlen : C.length ≤ N := by
        have := sg_one (g := u) (j := hix k hh) (2 ^ k) 0 (Nat.zero_le _) (by omega)
        omega
      have hkd : ∀ y ∈ C, 24 ≤ hp_kd G y ∧ hp_kd G y ≤ 25 := fun y hy => (c2.2.1 y hy).1.1
      have c1' := c1
      rw [eC] at c1'
      refine blJ7_treeifyBin_37 ?_
      have hr : 22 + N = (22 + N - C.length) + (x :: ys).length := by rw [← eC]; omega
      rw [hr]
      refine tb_loop (G := G) (i := hix k hh) (ns := C) ka hkd (by show 5 ≤ d; omega) ?_ rfl ys [] [] (fun z => z) G none x eC ⟨rfl, List.nodup_nil, fun y hy => by cases hy⟩ rfl trivial cf.rf c1'.2
      intro G2 zs f h0 s1 s2 s3 s4
      have kt2 : hp_kd G2 t = 35 := by rw [s4.kd (by rw [kt]; decide)]; exact kt
      have lt2 : hp_ln G2 t = 2 ^ k := by rw [s4.ln (by rw [kt]; decide)]; exact lt
      have rt2 : hp_r G2 t = hp_r G t := s4.r (by rw [kt]; decide) id
      obtain ⟨zs', eZ⟩ : ∃ zs', zs = h0 :: zs' := by
        cases zs with
        | nil => cases s2
        | cons z zs => exact ⟨zs, by rw [Option.some.inj s2.1]⟩
      have st2 : ∀ b m, st w G b m → st w G2 b m := fun b m v => st_cf s4 (fun x hx => hx.elim) v
      have fm : ∀ y ∈ zs, f y ∈ C := fun y hy => by rw [← s1.1]; exact List.mem_map.2 ⟨y, hy, rfl⟩
      have tz : t ∉ zs := fun v => by have := (s1.2.2 t v).2.1; rw [kt2] at this; cases this
      have f3 : cf (fun y => y = t) G2 (hp_sR G2 t (hix k hh) (some h0)) := cf.rf.sR (Or.inl rfl)
      have st3 : ∀ b m, st w G2 b m → st w (hp_sR G2 t (hix k hh) (some h0)) b m := fun b m v => st_cf f3 (fun x hx => by rw [hx, kt2]; exact ⟨by decide, by decide⟩) v
      have hN3 : ∀ y ∈ zs, hn w (hp_sR G2 t (hix k hh) (some h0)) a y (L (f y)) (V (f y)) ∧ hp_kd (hp_sR G2 t (hix k hh) (some h0)) y = 25 ∧ hix k (hx (L (f y))) = hix k hh := fun y hy => by
        obtain ⟨-, a2, a3, a4, a5, a6, a7⟩ := s1.2.2 y hy
        obtain ⟨⟨n1, n2, n3, n4, ⟨key, n5, n6⟩, n7, n8, n9⟩, n10⟩ := c2.2.1 _ (fm y hy)
        have hn2 : hn w G2 a y (L (f y)) (V (f y)) := ⟨by rw [a2]; decide, a3, a4, a5.trans n4, ⟨key, a6.trans n5, st2 _ _ n6⟩, a7.trans n7, s4.ne n8, by rw [s4.kd n8]; exact n9⟩
        exact ⟨hn2.fr f3 st3 (fun e => tz (by rw [← e]; exact hy)), a2, n10⟩
      have rne : ∀ y ∈ zs, hp_r (hp_sR G2 t (hix k hh) (some h0)) y = hp_r G2 y := fun y hy => by
        funext q
        rw [hp_r_sR, if_neg (fun e => tz (by rw [← e]; exact hy))]
      have injz : ∀ y ∈ zs, ∀ z ∈ zs, L (f y) = L (f z) → y = z := fun y hy z hz e => map_inj zs f (by rw [s1.1]; exact c2.1) y hy z hz (c3 _ (fm y hy) _ (fm z hz) e)
      refine blJ7_treeifyBin_93 rfl (by rw [lt2]; exact vp_in_nI hl (by omega)) tA (by rw [kt2]; decide) (by rw [kt2]; rfl) (fun b hb => ?_) (fun e => by cases e) (fun _ _ => ?_)
      · rw [← Option.some.inj hb, (s1.2.2 h0 (by rw [eZ]; exact List.mem_cons_self)).2.1]
        exact ⟨by decide, by decide, Or.inr (by decide)⟩
      · rw [cl]
        refine blJ7_treeifyBin_103 rfl (hN3 h0 (by rw [eZ]; exact List.mem_cons_self)).2.1 (J26_treeify_C (d := 23) (i := hix k hh) (k := k) (B := zs) (Lf := fun y => L (f y)) (Vf := fun y => V (f y)) kt2 tA lt2 (by omega) hN3 eZ (by rw [hp_r_sR, if_pos rfl, if_pos rfl]; exact hch.fr _ _ rne s2) (hpv.fr _ _ rne s3) s1.2.1 injz hcmp (Nat.le_refl 23)) (by show 23 + 1 ≤ d; omega) (Nat.zero_le _) ?_ (fun _ _ _ q => absurd q id)
        intro v G4 hP
        have hP' := hP
        obtain ⟨rfl, -, -, -, -, -, m5⟩ := hP'
        have bnew := bk_tf (k := k) (Vf := fun y => V (f y)) (Lf := fun y => L (f y)) hP tz (fun y hy => ⟨(hN3 y hy).1, (hN3 y hy).2.2⟩) injz s1.2.1 (fun b m v => st_cf m5.1 (fun x hx => by
          rcases hx with hx | hx
          · rw [(hN3 x hx).2.1]; exact ⟨by decide, by decide⟩
          · rw [hx, hp_kd_sR, kt2]; exact ⟨by decide, by decide⟩) v)
        have c0 : cf (fun y => y = t) G G4 := by
          refine ((s4.mono (own2 := fun y => y = t) (fun _ _ v => v.elim)).tr f3).tr2 m5.1 (fun y hy v => ?_)
          rcases v with v | v
          · exact absurd (s1.2.2 y v).1 hy
          · exact v
        have c0st : ∀ b m, st w G b m → st w G4 b m := fun b m v => st_cf c0 (fun x hx => by rw [hx, kt]; exact ⟨by decide, by decide⟩) v
        have hb4 := bins_put hb c0 c0st (fun y h1 h2 e => by rw [e, kt] at h2; omega) (fun j hj => by rw [m5.2.2.1 j hj, hp_r_sR, if_pos rfl, if_neg hj, rt2]) bnew
        have zl : zs.length = u (hix k hh) := by rw [← c5, ← s1.1, List.length_map]
        refine blJ7_treeifyBin_109 ⟨rfl, ?_, hmt_of hb4 (by rw [c0.kd (by rw [ka]; decide)]; exact ka) aA (by rw [c0.kd (by rw [kt]; decide)]; exact kt) tA (ot.cg ?_) (by rw [c0.ln (by rw [kt]; decide)]; exact lt) (by rw [c0.r (by rw [ka]; decide) ta.symm]; exact e2) hk4 hk8 (by rw [c0.i (by rw [ka]; decide) ta.symm]; exact e6) ?_ (fun l v => ?_), by rw [c0.i (by rw [ka]; decide) ta.symm], c0.mono (fun y _ e => Or.inr ⟨by rw [e]; exact ot, Or.inl (by rw [e]; exact kt)⟩)⟩
        · rw [c0.r (by rw [ka]; decide) ta.symm, e2]; exact (fun e => by cases e)
        · rw [m5.2.2.2.2 t]; show hp_l G2 t = _; rw [s4.l (by rw [kt]; decide) id]
        · rw [sg_cg (g' := u) _ _ (fun j _ _ => by
            by_cases e : j = hix k hh
            · rw [if_pos e, e, zl]
            · rw [if_neg e])]
          exact hsum
        · rw [hm l v]
          by_cases e : hix k (hx l) = hix k hh
          · rw [if_pos e, e, ← c4 l v]
            constructor
            · rintro ⟨y, hy, q1, q2⟩
              rw [← s1.1] at hy
              obtain ⟨z, hz, ez⟩ := List.mem_map.1 hy
              exact ⟨z, hz, by rw [ez]; exact q1, by rw [ez]; exact q2⟩
            · rintro ⟨z, hz, q1, q2⟩
              exact ⟨f z, fm z hz, q1, q2⟩
          · rw [if_neg e]
  · refine blJ7_treeifyBin_13 ka (J7_resize_C (d := 25) h (fun t' ht => ?_) hNb hcmp (Nat.le_refl 25)) hd (Nat.le_refl _) ?_ (fun _ _ _ q => absurd q id)
    · rw [e2] at ht
      rw [← Option.some.inj ht, lt]
      refine Decidable.byContradiction fun no => q ?_
      rw [lt]
      have e8 : k = 8 := by
        have : ¬ k ≤ 7 := fun h7 => no (Nat.le_trans (Nat.pow_le_pow_right (by decide) h7) (by decide))
        omega
      rw [e8]
      decide
    · rintro v G' ⟨rfl, r1, r2, r3, r4⟩
      exact blJ7_treeifyBin_17 (blJ7_treeifyBin_109 ⟨rfl, r1, r2, r3, r4⟩)
end
