/-! HashMap.resize: the contract -/
set_option maxRecDepth 100000
section
variable {w : WD} {d : Nat} {G G' : GH} {a t n k : Nat}
/-- a table whose bins are all split -/
theorem rz_done {E : Nat → List Nat → Nat → Prop} {u : Nat → Nat} {th : Int32} {N : Nat} {m : List Nat → Option Nat} (h : rz_I w G a t n k E u th (2 ^ k) G') (ka : hp_kd G a = 23) (aA : hp_A w a) (kt : hp_kd G t = 35) (ot : ow G t a) (nA : hp_A w n) (hk4 : 4 ≤ k) (hk : k ≤ 7) (eth : th = nI (3 * 2 ^ (k - 1))) (hN : sg u (2 ^ k) 0 ≤ N) (hm : ∀ l v, m l = some v ↔ E (hix k (hx l)) l v) (hEi : ∀ i l v, i < 2 ^ k → E i l v → hix k (hx l) = i) :
    hp_r G' a 2 = some n ∧ hmt w G' a N m ∧ hp_i G' a 4 = hp_i G a 4 ∧ cf (hm_o G a) G G' := by
  obtain ⟨h1, ⟨h2, h3, h4⟩, ⟨h5, h6, h7⟩, -, h9⟩ := h
  have hp3 : 2 ^ (k + 1) = 2 ^ k + 2 ^ k := by rw [Nat.pow_succ]; omega
  have hh : ∀ i, ∃ u12 : Nat × Nat, i < 2 ^ k → u12.1 + u12.2 = u i ∧ bk w G' a (k + 1) i (hp_r G' n i) (fun l v => E i l v ∧ hx l &&& nI (2 ^ k) = 0) u12.1 ∧ bk w G' a (k + 1) (i + 2 ^ k) (hp_r G' n (i + 2 ^ k)) (fun l v => E i l v ∧ ¬ hx l &&& nI (2 ^ k) = 0) u12.2 := fun i => by
    by_cases hi : i < 2 ^ k
    · obtain ⟨u1, u2, q⟩ := h9 i hi
      exact ⟨(u1, u2), fun _ => q⟩
    · exact ⟨(0, 0), fun v => absurd v hi⟩
  obtain ⟨F, hF⟩ := Classical.skolem.1 hh
  have hb : ∀ i, i < 2 ^ (k + 1) → bk w G' a (k + 1) i (hp_r G' n i) (fun l v => E (i % 2 ^ k) l v ∧ hix (k + 1) (hx l) = i) (if i < 2 ^ k then (F i).1 else (F (i - 2 ^ k)).2) := by
    intro i hi
    have cg : ∀ {C : List Nat} {L : Nat → List Nat} {V : Nat → Nat} {E1 E2 : List Nat → Nat → Prop}, (∀ l v, (∃ x, x ∈ C ∧ L x = l ∧ V x = v) ↔ E1 l v) → (∀ l v, E1 l v ↔ E2 l v) → ∀ l v, (∃ x, x ∈ C ∧ L x = l ∧ V x = v) ↔ E2 l v := fun h h' l v => (h l v).trans (h' l v)
    by_cases q : i < 2 ^ k
    · rw [if_pos q, Nat.mod_eq_of_lt q]
      obtain ⟨-, ⟨C, L, V, c1, c2, c3, c4, c5⟩, -⟩ := hF i q
      refine ⟨C, L, V, c1, c2, c3, cg c4 (fun l v => and_congr_right fun e => ?_), c5⟩
      have ei := hEi i l v q e
      constructor
      · intro b
        rw [(hix_bit (by omega)).1 b, ei]
      · intro b
        refine Decidable.byContradiction fun nb => ?_
        rw [(hix_bit (by omega)).2 nb, ei] at b
        have := Nat.two_pow_pos k
        omega
    · have q2 : i - 2 ^ k < 2 ^ k := by omega
      have ei2 : i % 2 ^ k = i - 2 ^ k := by rw [Nat.mod_eq_sub_mod (by omega), Nat.mod_eq_of_lt q2]
      rw [if_neg q, ei2]
      obtain ⟨-, -, ⟨C, L, V, c1, c2, c3, c4, c5⟩⟩ := hF (i - 2 ^ k) q2
      have e3 : i - 2 ^ k + 2 ^ k = i := by omega
      rw [e3] at c1 c2
      refine ⟨C, L, V, c1, c2, c3, cg c4 (fun l v => and_congr_right fun e => ?_), c5⟩
      have ei := hEi _ l v q2 e
      constructor
      · intro b
        rw [(hix_bit (by omega)).2 b, ei, e3]
      · intro b nb
        rw [(hix_bit (by omega)).1 nb, ei] at b
        have := Nat.two_pow_pos k
        omega
  obtain ⟨Lf, Vf, B, g1, g2, g3⟩ := glue hb h2 nA h4 h3
  have ka' : hp_kd G' a = 23 := by rw [h1.kd (by rw [ka]; decide)]; exact ka
  refine ⟨h5, ⟨⟨ka', aA⟩, Or.inr ⟨n, k + 1, Lf, Vf, B, h5, g1, by omega, by omega, by rw [h7, eth]; rfl, ?_, fun l v => ?_⟩⟩, h6, h1.mono (fun x hx e => ?_)⟩
  · refine Nat.le_trans ?_ hN
    rw [hp3, sg_add]
    have e1 : sg (fun i => (B i).length) (2 ^ k) 0 + sg (fun i => (B i).length) (2 ^ k) (0 + 2 ^ k) ≤ sg u (2 ^ k) 0 := by
      have key : ∀ c, c ≤ 2 ^ k → sg (fun i => (B i).length) c 0 + sg (fun i => (B i).length) c (0 + 2 ^ k) = sg u c 0 := by
        intro c
        induction c with
        | zero => intro _; rfl
        | succ c ih =>
          intro hc
          have ih' := ih (by omega)
          have b1 : (B (0 + c)).length = (F c).1 := by rw [Nat.zero_add, g2 c (by omega), if_pos (by omega)]
          have b2 : (B (0 + 2 ^ k + c)).length = (F c).2 := by rw [show 0 + 2 ^ k + c = c + 2 ^ k by omega, g2 (c + 2 ^ k) (by omega), if_neg (by omega), Nat.add_sub_cancel]
          have b3 := (hF c (by omega)).1
          show sg (fun i => (B i).length) c 0 + (B (0 + c)).length + (sg (fun i => (B i).length) c (0 + 2 ^ k) + (B (0 + 2 ^ k + c)).length) = sg u c 0 + u (0 + c)
          rw [b1, b2, Nat.zero_add c]
          omega
      exact Nat.le_of_eq (key _ (Nat.le_refl _))
    exact e1
  · have hl := hix_lt (k := k + 1) (h := hx l)
    rw [g3 _ hl, hm l v, ← hix_half]
    exact ⟨fun e => ⟨e, rfl⟩, fun e => e.1⟩
  · rcases e with e | e | ⟨e1, e2⟩
    · exact Or.inl e
    · exact Or.inr ⟨by rw [e]; exact ot, Or.inl (by rw [e]; exact kt)⟩
    · exact Or.inr ⟨e2, Or.inr (by omega)⟩
theorem J7_resize_C {N : Nat} {m : List Nat → Option Nat} (h : hmt w G a N m) (hk7 : ∀ t, hp_r G a 2 = some t → hp_ln G t ≤ 128) (hNb : N < 2 ^ 20) (hcmp : cmp_o w) (hd : 25 ≤ d) : wk_C w mJ7_resize d (22 + N) [vR (some a)] G (fun v G' => v = some (vR (hp_r G' a 2)) ∧ hp_r G' a 2 ≠ none ∧ hmt w G' a N m ∧ hp_i G' a 4 = hp_i G a 4 ∧ cf (hm_o G a) G G') (fun _ _ _ => False) := by
  obtain ⟨⟨ka, aA⟩, h⟩ := h
  refine wk_C_of (by decide) rfl (Nat.le_of_ble_eq_true rfl) ?_
  rcases h with ⟨e2, e6, em⟩ | ⟨t, k, Lf, Vf, B, e2, hb, hk4, hk8, e6, hsum, hm⟩
  · refine blJ7_resize_0 ka (fun o e => by rw [e2] at e; cases e) (fun _ => ?_)
    refine blJ7_resize_9 (blJ7_resize_15 ka (fun _ => ?_) (fun q => absurd (Int32.le_refl _) q))
    rw [e6]
    refine blJ7_resize_67 (fun _ => ?_) (fun q => absurd (Int32.le_refl _) q)
    refine blJ7_resize_77 (blJ7_resize_85 (fun _ => ?_) (fun q => absurd q (by decide)))
    have c16 : (16 : Int32).toNatClampNeg / 12 = 1 := by decide
    refine blJ7_resize_125 (x4 := 16) (x5 := 12) ka aA (by decide) (by decide) (by rw [c16]; omega) (fun q hq qA => ?_)
    have qa : q ≠ a := fun e => by rw [e] at hq; have hq' : hp_kd G a = 0 := hq; rw [ka] at hq'; cases hq'
    have ka1 : hp_kd (hp_nw (hp_sI G a 6 12) q 35 (Int32.toNatClampNeg 16)) a = 23 := by rw [hp_kd_nw, if_neg qa.symm]; exact ka
    rw [e2]
    refine blJ7_resize_136 ka1 aA (fun _ => ?_) (fun o e => by cases e)
    refine wk_gl q a 1 (by rw [hp_kd_sR, hp_kd_nw, if_pos rfl]; decide) (blJ7_resize_353 ?_)
    have c0 : cf (fun x => x = a) G (hp_sL (hp_sR (hp_nw (hp_sI G a 6 12) q 35 (Int32.toNatClampNeg 16)) a 2 (some q)) q a 1) := ((((cf.rf (own := fun x => x = a)).sI (Or.inl rfl)).nw hq).sR (Or.inl rfl)).sL (Or.inr hq)
    have r2 : hp_r (hp_sL (hp_sR (hp_nw (hp_sI G a 6 12) q 35 (Int32.toNatClampNeg 16)) a 2 (some q)) q a 1) a 2 = some q := by rw [hp_r_sL, hp_r_sR, if_pos rfl, if_pos rfl]
    have kq : hp_kd (hp_sL (hp_sR (hp_nw (hp_sI G a 6 12) q 35 (Int32.toNatClampNeg 16)) a 2 (some q)) q a 1) q = 35 := by rw [hp_kd_sL, hp_kd_sR, hp_kd_nw, if_pos rfl]
    have lq : hp_ln (hp_sL (hp_sR (hp_nw (hp_sI G a 6 12) q 35 (Int32.toNatClampNeg 16)) a 2 (some q)) q a 1) q = 2 ^ 4 := by
      show hp_ln (hp_nw (hp_sI G a 6 12) q 35 (Int32.toNatClampNeg 16)) q = _
      rw [hp_ln_nw, if_pos rfl]; decide
    have rq : ∀ i, hp_r (hp_sL (hp_sR (hp_nw (hp_sI G a 6 12) q 35 (Int32.toNatClampNeg 16)) a 2 (some q)) q a 1) q i = none := fun i => by rw [hp_r_sL, hp_r_sR, if_neg qa, hp_r_nw, if_pos rfl]
    have oq : ow (hp_sL (hp_sR (hp_nw (hp_sI G a 6 12) q 35 (Int32.toNatClampNeg 16)) a 2 (some q)) q a 1) q a := ow.set (fun y => by rw [hp_l_sR, hp_l_nw, if_pos rfl])
    have i6 : hp_i (hp_sL (hp_sR (hp_nw (hp_sI G a 6 12) q 35 (Int32.toNatClampNeg 16)) a 2 (some q)) q a 1) a 6 = 12 := by rw [hp_i_sL, hp_i_sR, hp_i_nw, if_neg qa.symm, hp_i_sI, if_pos rfl, if_pos rfl]
    have i4 : hp_i (hp_sL (hp_sR (hp_nw (hp_sI G a 6 12) q 35 (Int32.toNatClampNeg 16)) a 2 (some q)) q a 1) a 4 = hp_i G a 4 := by rw [hp_i_sL, hp_i_sR, hp_i_nw, if_neg qa.symm, hp_i_sI, if_pos rfl, if_neg (by decide)]
    generalize hp_sL (hp_sR (hp_nw (hp_sI G a 6 12) q 35 (Int32.toNatClampNeg 16)) a 2 (some q)) q a 1 = G1 at c0 r2 kq lq rq oq i6 i4 ⊢
    refine ⟨by rw [r2], by rw [r2]; exact (fun e => by cases e), ⟨⟨by rw [c0.kd (by rw [ka]; decide)]; exact ka, aA⟩, Or.inr ⟨q, 4, fun _ => [], fun _ => 0, fun _ => [], r2, ⟨kq, qA, oq, lq, fun i _ => ⟨rq i, List.nodup_nil, fun x hx => (by cases hx), Or.inl fun x hx => (by cases hx)⟩, fun i j x y _ _ hx => (by cases hx)⟩, by decide, by decide, by rw [i6]; rfl, ?_, fun l v => ?_⟩⟩, i4, c0.mono (fun x _ e => Or.inl e)⟩
    · exact Nat.le_trans (Nat.le_of_eq (sg_zero (g := fun i => ((fun _ : Nat => ([] : List Nat)) i).length) _ _ (fun j _ _ => rfl))) (Nat.zero_le _)
    · rw [em]
      exact ⟨fun e => (by cases e), fun ⟨x, hx, _⟩ => (by cases hx)⟩
  · have kt := hb.1
    have tA := hb.2.1
    have ot := hb.2.2.1
    have lt := hb.2.2.2.1
    have hk : k ≤ 7 := by
      have := hk7 t e2
      rw [lt] at this
      refine Decidable.byContradiction fun no => ?_
      have e8 : k = 8 := by omega
      rw [e8] at this
      exact absurd this (by decide)
    have hkk : k = 4 ∨ k = 5 ∨ k = 6 ∨ k = 7 := by omega
    have m1 : ¬ (nI (2 ^ k) ≤ 0) ∧ nI (2 ^ k) < 1073741824 ∧ ¬ ((1073741824 : Int32) ≤ (nI (2 ^ k) <<< ((1 : Int32) &&& 31))) ∧ ¬ (nI (2 ^ k) <<< ((1 : Int32) &&& 31) < 16 ∨ nI (2 ^ k) < 16) ∧ nI (2 ^ k) <<< ((1 : Int32) &&& 31) = nI (2 ^ (k + 1)) ∧ nI (3 * 2 ^ (k - 2)) <<< ((1 : Int32) &&& 31) = nI (3 * 2 ^ (k - 1)) ∧ ¬ (nI (3 * 2 ^ (k - 1)) = 0) ∧ ¬ (nI (2 ^ (k + 1)) < 0) ∧ 2 ^ (k + 1) ≤ 256 := by
      rcases hkk with rfl | rfl | rfl | rfl <;> decide
    obtain ⟨m1, m2, m3, m4, m5, m6, m7, m8, m9⟩ := m1
    have cl : (nI (2 ^ (k + 1))).toNatClampNeg = 2 ^ (k + 1) := nI_clamp (by omega)
    refine blJ7_resize_0 ka (fun _ _ => ?_) (fun e => by rw [e2] at e; cases e)
    rw [e2]
    refine blJ7_resize_13 rfl (by rw [kt]; decide) ?_
    rw [lt]
    refine blJ7_resize_15 ka (fun q => absurd q m1) (fun _ => ?_)
    rw [e6]
    refine blJ7_resize_28 (fun _ => ?_) (fun q => absurd m2 q)
    refine blJ7_resize_42 (fun q => absurd q m3) (fun _ => ?_)
    refine blJ7_resize_53 (fun q => absurd (Or.inr q) m4) (fun _ => ?_)
    refine blJ7_resize_59 ?_
    rw [m5, m6]
    refine blJ7_resize_85 (fun _ => ?_) (fun q => absurd q m7)
    refine blJ7_resize_125 ka aA m8 (by rw [cl]; omega) (by rw [cl]; omega) (fun q hq qA => ?_)
    rw [cl]
    have hq' : hp_kd G q = 0 := hq
    have qa : q ≠ a := fun e => by rw [e, ka] at hq'; cases hq'
    have qt : q ≠ t := fun e => by rw [e, kt] at hq'; cases hq'
    have ta : t ≠ a := fun e => by rw [e, ka] at kt; cases kt
    have ka1 : hp_kd (hp_nw (hp_sI G a 6 (nI (3 * 2 ^ (k - 1)))) q 35 (2 ^ (k + 1))) a = 23 := by rw [hp_kd_nw, if_neg qa.symm]; exact ka
    refine blJ7_resize_136 ka1 aA (fun e => by cases e) (fun _ _ => ?_)
    refine blJ7_resize_148 (wk_gl q a 1 (by rw [hp_kd_sR, hp_kd_nw, if_pos rfl]; decide) ?_)
    have c0 : cf (fun x => x = a) G (hp_sL (hp_sR (hp_nw (hp_sI G a 6 (nI (3 * 2 ^ (k - 1)))) q 35 (2 ^ (k + 1))) a 2 (some q)) q a 1) := ((((cf.rf (own := fun x => x = a)).sI (Or.inl rfl)).nw hq).sR (Or.inl rfl)).sL (Or.inr hq')
    have r2 : hp_r (hp_sL (hp_sR (hp_nw (hp_sI G a 6 (nI (3 * 2 ^ (k - 1)))) q 35 (2 ^ (k + 1))) a 2 (some q)) q a 1) a 2 = some q := by rw [hp_r_sL, hp_r_sR, if_pos rfl, if_pos rfl]
    have kq : hp_kd (hp_sL (hp_sR (hp_nw (hp_sI G a 6 (nI (3 * 2 ^ (k - 1)))) q 35 (2 ^ (k + 1))) a 2 (some q)) q a 1) q = 35 := by rw [hp_kd_sL, hp_kd_sR, hp_kd_nw, if_pos rfl]
    have lq : hp_ln (hp_sL (hp_sR (hp_nw (hp_sI G a 6 (nI (3 * 2 ^ (k - 1)))) q 35 (2 ^ (k + 1))) a 2 (some q)) q a 1) q = 2 ^ (k + 1) := by
      show hp_ln (hp_nw (hp_sI G a 6 (nI (3 * 2 ^ (k - 1)))) q 35 (2 ^ (k + 1))) q = _
      rw [hp_ln_nw, if_pos rfl]
    have rq : ∀ i, hp_r (hp_sL (hp_sR (hp_nw (hp_sI G a 6 (nI (3 * 2 ^ (k - 1)))) q 35 (2 ^ (k + 1))) a 2 (some q)) q a 1) q i = none := fun i => by rw [hp_r_sL, hp_r_sR, if_neg qa, hp_r_nw, if_pos rfl]
    have oq : ow (hp_sL (hp_sR (hp_nw (hp_sI G a 6 (nI (3 * 2 ^ (k - 1)))) q 35 (2 ^ (k + 1))) a 2 (some q)) q a 1) q a := ow.set (fun y => by rw [hp_l_sR, hp_l_nw, if_pos rfl])
    have i6 : hp_i (hp_sL (hp_sR (hp_nw (hp_sI G a 6 (nI (3 * 2 ^ (k - 1)))) q 35 (2 ^ (k + 1))) a 2 (some q)) q a 1) a 6 = nI (3 * 2 ^ (k - 1)) := by rw [hp_i_sL, hp_i_sR, hp_i_nw, if_neg qa.symm, hp_i_sI, if_pos rfl, if_pos rfl]
    have i4 : hp_i (hp_sL (hp_sR (hp_nw (hp_sI G a 6 (nI (3 * 2 ^ (k - 1)))) q 35 (2 ^ (k + 1))) a 2 (some q)) q a 1) a 4 = hp_i G a 4 := by rw [hp_i_sL, hp_i_sR, hp_i_nw, if_neg qa.symm, hp_i_sI, if_pos rfl, if_neg (by decide)]
    generalize hp_sL (hp_sR (hp_nw (hp_sI G a 6 (nI (3 * 2 ^ (k - 1)))) q 35 (2 ^ (k + 1))) a 2 (some q)) q a 1 = Gn at c0 r2 kq lq rq oq i6 i4 ⊢
    have st0 : ∀ b m, st w G b m → st w Gn b m := fun b m u => st_cf c0 (fun x hx => by rw [hx, ka]; exact ⟨by decide, by decide⟩) u
    have hI : rz_I w G a t q k (fun i l v => ∃ x, x ∈ B i ∧ Lf x = l ∧ Vf x = v) (fun i => (B i).length) (nI (3 * 2 ^ (k - 1))) 0 Gn := by
      refine ⟨c0.mono (fun x _ e => Or.inl e), ⟨kq, lq, oq⟩, ⟨r2, i4, i6⟩, fun i _ hi => ⟨?_, rq _, rq _⟩, fun i hi => absurd hi (Nat.not_lt_zero _)⟩
      rw [c0.r (by rw [kt]; decide) ta]
      exact (hb.toB hi).fr c0 st0 (fun x hx1 hx2 _ _ e => by rw [e, ka] at hx1; omega)
    have hlen : ∀ i, i < 2 ^ k → (B i).length < 2 ^ 20 := fun i hi => by
      have := sg_one (g := fun i => (B i).length) (j := i) (2 ^ k) 0 (Nat.zero_le _) (by omega)
      have e : (fun i => (B i).length) i = (B i).length := rfl
      omega
    refine rz_main (E := fun i l v => ∃ x, x ∈ B i ∧ Lf x = l ∧ Vf x = v) (u := fun i => (B i).length) (th := nI (3 * 2 ^ (k - 1))) ka kt tA lt hq' qA (by omega) hcmp hd (fun G1 h1 => ?_) hlen (2 ^ k) 0 Gn _ (by omega) hI (by omega)
    obtain ⟨d1, d2, d3, d4⟩ := rz_done (N := N) (m := m) h1 ka aA kt ot qA hk4 hk rfl hsum hm (fun i l v hi ⟨x, hx, e, _⟩ => by rw [← e]; exact ((hb.2.2.2.2.1 i hi).2.2.1 x hx).2)
    exact ⟨by rw [d1], by rw [d1]; exact (fun e => by cases e), d2, d3, d4⟩
end
