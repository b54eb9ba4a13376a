/-! TreeNode.split -/
set_option maxRecDepth 100000
section
variable {w : WD} {d : Nat} {G : GH} {a k i n : Nat} {B : List Nat} {Lf : Nat → List Nat} {Vf : Nat → Nat}
/-- the nodes whose hash has not the bit k; those that have it -/
def fl (k : Nat) (Lf : Nat → List Nat) (P : List Nat) : List Nat := P.filter (fun x => decide (hx (Lf x) &&& nI (2 ^ k) = 0))
def fh (k : Nat) (Lf : Nat → List Nat) (P : List Nat) : List Nat := P.filter (fun x => ! decide (hx (Lf x) &&& nI (2 ^ k) = 0))
theorem fl_mem {P : List Nat} {x : Nat} : x ∈ fl k Lf P ↔ x ∈ P ∧ hx (Lf x) &&& nI (2 ^ k) = 0 := by
  unfold fl
  rw [List.mem_filter, decide_eq_true_iff]
theorem fh_mem {P : List Nat} {x : Nat} : x ∈ fh k Lf P ↔ x ∈ P ∧ ¬ hx (Lf x) &&& nI (2 ^ k) = 0 := by
  unfold fh
  rw [List.mem_filter, Bool.not_eq_true', decide_eq_false_iff_not]
theorem fl_snoc {P : List Nat} {x : Nat} : fl k Lf (P ++ [x]) = if hx (Lf x) &&& nI (2 ^ k) = 0 then fl k Lf P ++ [x] else fl k Lf P := by
  unfold fl
  rw [List.filter_append]
  by_cases e : hx (Lf x) &&& nI (2 ^ k) = 0
  · rw [if_pos e]; simp [e]
  · rw [if_neg e]; simp [e]
theorem fh_snoc {P : List Nat} {x : Nat} : fh k Lf (P ++ [x]) = if hx (Lf x) &&& nI (2 ^ k) = 0 then fh k Lf P else fh k Lf P ++ [x] := by
  unfold fh
  rw [List.filter_append]
  by_cases e : hx (Lf x) &&& nI (2 ^ k) = 0
  · rw [if_pos e]; simp [e]
  · rw [if_neg e]; simp [e]
theorem fl_fh_len : ∀ P : List Nat, (fl k Lf P).length + (fh k Lf P).length = P.length
  | [] => rfl
  | x :: P => by
    have ih := fl_fh_len P
    unfold fl fh at ih ⊢
    by_cases e : hx (Lf x) &&& nI (2 ^ k) = 0
    · simp only [List.filter_cons, e, decide_true, Bool.not_true, if_true, if_false, List.length_cons] at ih ⊢
      simp at ih ⊢
      omega
    · simp only [List.filter_cons, e, decide_false, Bool.not_false, if_true, if_false, List.length_cons] at ih ⊢
      simp at ih ⊢
      omega
/-- what a split leaves -/
def sp_P (w : WD) (G : GH) (a n k i : Nat) (B : List Nat) (Lf : Nat → List Nat) (Vf : Nat → Nat) (G' : GH) : Prop :=
  bk w G' a (k + 1) i (hp_r G' n i) (fun l v => ∃ x, x ∈ fl k Lf B ∧ Lf x = l ∧ Vf x = v) (fl k Lf B).length ∧ bk w G' a (k + 1) (i + 2 ^ k) (hp_r G' n (i + 2 ^ k)) (fun l v => ∃ x, x ∈ fh k Lf B ∧ Lf x = l ∧ Vf x = v) (fh k Lf B).length ∧
  cf (fun x => x ∈ B ∨ x = n) G G' ∧ (∀ j, j ≠ i → j ≠ i + 2 ^ k → hp_r G' n j = hp_r G n j) ∧ hp_l G' n = hp_l G n
theorem bk_empty {p : Option Nat} {C : List Nat} (hp : p = none) (hC : C = []) : bk w G a k i p (fun l v => ∃ x, x ∈ C ∧ Lf x = l ∧ Vf x = v) C.length := by
  subst hp hC
  exact bk.nil (fun l v ⟨x, hx, _⟩ => by cases hx)
theorem J26_split_C {h0 : Nat} {B1 : List Nat} (ka : hp_kd G a = 23) (kn : hp_kd G n = 35) (nA : hp_A w n) (ln : hp_ln G n = 2 ^ (k + 1)) (hk : k ≤ 10) (hi : i < 2 ^ k) (n0 : hp_r G n i = none ∧ hp_r G n (i + 2 ^ k) = none) (hB : B = h0 :: B1) (hbn0 : hbn w G a k Lf Vf i B) (hc : hch G (some h0) B) (hT : tbn G Lf B) (hinj : ∀ x ∈ B, ∀ y ∈ B, Lf x = Lf y → x = y) (hlen : B.length < 2 ^ 20) (hcmp : cmp_o w) (hd : 24 ≤ d) :
    wk_C w mJ26_split d B.length [vR (some h0), vR (some a), vR (some n), vI (nI i), vI (nI (2 ^ k))] G (fun v G' => v = none ∧ sp_P w G a n k i B Lf Vf G') (fun _ _ _ => False) := by
  obtain ⟨nd, hN, -⟩ := hbn0
  have kB : ∀ x ∈ B, hp_kd G x = 25 := by
    obtain ⟨r, xs, ps, lo, hi, -, -, h, -⟩ := hT
    exact fun x hx => (h.2 x hx).1
  have AB : ∀ x ∈ B, hp_A w x := fun x hx => (hN x hx).1.2.1
  have hp2 : 2 ^ k ≤ 2 ^ 10 := Nat.pow_le_pow_right (by decide) hk
  have hp3 : 2 ^ (k + 1) = 2 ^ k + 2 ^ k := by rw [Nat.pow_succ]; omega
  have nB : n ∉ B := fun u => by have := kB n u; rw [kn] at this; cases this
  have hB0 : ∀ x ∈ B, hp_i G x 0 = hx (Lf x) := fun x hx => (hN x hx).1.2.2.2.1
  have stB : ∀ {G1 : GH}, cf (fun x => x ∈ B ∨ x = n) G G1 → ∀ b m, st w G b m → st w G1 b m := fun h b m u => st_cf h (fun x hx => by
    rcases hx with hx | hx
    · rw [kB x hx]; exact ⟨by decide, by decide⟩
    · rw [hx, kn]; exact ⟨by decide, by decide⟩) u
  refine wk_C_of (by decide) rfl (Nat.le_of_ble_eq_true rfl) ?_
  refine blJ26_split_0 (blJ26_split_12 ?_)
  -- behind the loop
  have fin : ∀ G1 p6 p8, lf B n i G G1 → hp_r G1 n = hp_r G n → hch G1 p6 (fl k Lf B) → hpv G1 none (fl k Lf B) → hch G1 p8 (fh k Lf B) → hpv G1 none (fh k Lf B) →
      wk_V w mJ26_split (d, B.length, (fun v G' => v = none ∧ sp_P w G a n k i B Lf Vf G'), (fun _ _ _ => False), hp_cs G, hp_ss G) 131 [(1, vR (some a)), (2, vR (some n)), (3, vI (nI i)), (4, vI (nI (2 ^ k))), (6, vR p6), (8, vR p8), (10, vI (nI (fl k Lf B).length)), (11, vI (nI (fh k Lf B).length))] [] G1 B.length := by
    intro G1 p6 p8 g1 t1 c1 v1 c2 v2
    have gc1 : cf (fun x => x ∈ B ∨ x = n) G G1 := g1.1
    have st1 := fun b m u => stB (G1 := G1) gc1 b m u
    have kk1 : ∀ y ∈ B, hp_kd G1 y = 25 := fun y hy => by rw [g1.1.kd (by rw [kB y hy]; decide)]; exact kB y hy
    have kn1 : hp_kd G1 n = 35 := by rw [gc1.kd (by rw [kn]; decide)]; exact kn
    have ka1 : hp_kd G1 a = 23 := by rw [gc1.kd (by rw [ka]; decide)]; exact ka
    have ln1 : hp_ln G1 n = 2 ^ (k + 1) := by rw [gc1.ln (by rw [kn]; decide)]; exact ln
    have hN1 : ∀ x ∈ B, hn w G1 a x (Lf x) (Vf x) := fun x hx => (hN x hx).1.tk (lf.toT g1) (fun e => nB (by rw [← e]; exact hx)) st1
    have bitl : ∀ x ∈ fl k Lf B, hix (k + 1) (hx (Lf x)) = i := fun x hx => by
      obtain ⟨u1, u2⟩ := fl_mem.1 hx
      rw [(hix_bit (by omega)).1 u2]
      exact (hN x u1).2
    have bith : ∀ x ∈ fh k Lf B, hix (k + 1) (hx (Lf x)) = i + 2 ^ k := fun x hx => by
      obtain ⟨u1, u2⟩ := fh_mem.1 hx
      rw [(hix_bit (by omega)).2 u2, (hN x u1).2]
    have fB : ∀ x ∈ fl k Lf B, x ∈ B := fun x hx => (fl_mem.1 hx).1
    have hBm : ∀ x ∈ fh k Lf B, x ∈ B := fun x hx => (fh_mem.1 hx).1
    have ndl : (fl k Lf B).Nodup := List.Pairwise.filter _ nd
    have ndh : (fh k Lf B).Nodup := List.Pairwise.filter _ nd
    have sumlen := fl_fh_len (k := k) (Lf := Lf) B
    have nl : n ∉ fl k Lf B := fun u => nB (fB n u)
    have nh : n ∉ fh k Lf B := fun u => nB (hBm n u)
    have eh2 : nI i + nI (2 ^ k) = nI (i + 2 ^ k) := nI_add _ _
    have cl1 : (nI i).toNatClampNeg = i := nI_clamp (by omega)
    have cl2 : (nI (i + 2 ^ k)).toNatClampNeg = i + 2 ^ k := nI_clamp (by omega)
    have ipos : 0 < 2 ^ k := Nat.two_pow_pos k
    -- the whole tree, if nothing goes to the other side
    have whole : ∀ C, (∀ x, x ∈ C ↔ x ∈ B) → (∃ r, (r ∈ C ∧ C.head? = some r) ∧ B.head? = some r) → hpv G1 none C → tbn G1 Lf C := by
      rintro C hm ⟨r0, ⟨rC, hC⟩, hB0'⟩ hv
      obtain ⟨r, xs, ps, lo, hi', e, p1, p2, p3⟩ := hT
      have er : r0 = r := by rw [e] at hB0'; exact (Option.some.inj hB0').symm
      subst er
      cases C with
      | nil => cases rC
      | cons y ys =>
        have ey : y = r0 := Option.some.inj hC
        subst ey
        have p2' : tr G1 B y ps lo hi' := p2.fr4 (fun x hx => ⟨by rw [kk1 x hx, kB x hx], fun j hj => g1.2.1 x j (fun e => nB (by rw [← e]; exact hx)) (by omega) (by omega)⟩)
        exact ⟨y, ys, ps, lo, hi', rfl, hv, p2'.mem (fun x => (hm x).symm), p3.mem (fun x => (hm x).symm)⟩
    -- the high half
    have high : ∀ G2 (q6 : Option Nat) (r : Nat), (fh k Lf B).length ≤ r → cf (fun x => x ∈ fl k Lf B ∨ x = n) G1 G2 → (∀ j, j ≠ i → hp_r G2 n j = hp_r G n j) → hp_l G2 n = hp_l G n → bk w G2 a (k + 1) i (hp_r G2 n i) (fun l v => ∃ x, x ∈ fl k Lf B ∧ Lf x = l ∧ Vf x = v) (fl k Lf B).length → (q6 = none → fl k Lf B = []) →
        wk_V w mJ26_split (d, B.length, (fun v G' => v = none ∧ sp_P w G a n k i B Lf Vf G'), (fun _ _ _ => False), hp_cs G, hp_ss G) 171 [(1, vR (some a)), (2, vR (some n)), (3, vI (nI i)), (4, vI (nI (2 ^ k))), (6, vR q6), (8, vR p8), (11, vI (nI (fh k Lf B).length))] [] G2 r := by
      intro G2 q6 r hr g2 t2 l2 blo hq6
      have g2c : cf (fun x => x ∈ B ∨ x = n) G G2 := gc1.tr (g2.mono (fun x _ u => u.imp (fB x) id))
      have dis : ∀ x ∈ fh k Lf B, ¬ (x ∈ fl k Lf B ∨ x = n) := fun x hx u => u.elim (fun v => (fh_mem.1 hx).2 (fl_mem.1 v).2) (fun e => nh (by rw [← e]; exact hx))
      have kx1 : ∀ x ∈ fh k Lf B, hp_kd G1 x ≠ 0 := fun x hx => by rw [kk1 x (hBm x hx)]; decide
      have st2 : ∀ b m, st w G1 b m → st w G2 b m := fun b m u => st_cf g2 (fun x hx => by
        rcases hx with hx | hx
        · rw [kk1 x (fB x hx)]; exact ⟨by decide, by decide⟩
        · rw [hx, kn1]; exact ⟨by decide, by decide⟩) u
      have hN2 : ∀ x ∈ fh k Lf B, hn w G2 a x (Lf x) (Vf x) ∧ hix (k + 1) (hx (Lf x)) = i + 2 ^ k := fun x hx => ⟨(hN1 x (hBm x hx)).fr g2 st2 (dis x hx), bith x hx⟩
      have kk2 : ∀ x ∈ fh k Lf B, hp_kd G2 x = 25 := fun x hx => by rw [g2.kd (kx1 x hx)]; exact kk1 x (hBm x hx)
      have r2 : ∀ x ∈ fh k Lf B, hp_r G2 x = hp_r G1 x := fun x hx => g2.r (kx1 x hx) (dis x hx)
      have kn2 : hp_kd G2 n = 35 := by rw [g2.kd (by rw [kn1]; decide)]; exact kn1
      have ka2 : hp_kd G2 a = 23 := by rw [g2.kd (by rw [ka1]; decide)]; exact ka1
      have ln2 : hp_ln G2 n = 2 ^ (k + 1) := by rw [g2.ln (by rw [kn1]; decide)]; exact ln1
      have c2' : hch G2 p8 (fh k Lf B) := hch.fr _ _ r2 c2
      have v2' : hpv G2 none (fh k Lf B) := hpv.fr _ _ r2 v2
      have inj2 : ∀ x ∈ fh k Lf B, ∀ y ∈ fh k Lf B, Lf x = Lf y → x = y := fun x hx y hy => hinj x (hBm x hx) y (hBm y hy)
      have vin : vp_in (nI (i + 2 ^ k)) (2 ^ (k + 1)) := vp_in_nI (by omega) (by omega)
      have nne : i + 2 ^ k ≠ i := by omega
      -- the end
      have done : ∀ G4, cf (fun x => x ∈ fh k Lf B ∨ x = n) G2 G4 → (∀ j, j ≠ i + 2 ^ k → hp_r G4 n j = hp_r G2 n j) → hp_l G4 n = hp_l G2 n → bk w G4 a (k + 1) (i + 2 ^ k) (hp_r G4 n (i + 2 ^ k)) (fun l v => ∃ x, x ∈ fh k Lf B ∧ Lf x = l ∧ Vf x = v) (fh k Lf B).length → sp_P w G a n k i B Lf Vf G4 := by
        intro G4 g4 t4 l4 bhi
        refine ⟨?_, bhi, g2c.tr (g4.mono (fun x _ u => u.imp (hBm x) id)), fun j hj hj2 => (t4 j hj2).trans (t2 j hj), l4.trans l2⟩
        rw [t4 i nne.symm]
        refine blo.fr g4 (fun b m u => st_cf g4 (fun x hx => ?_) u) (fun x hx1 hx2 how hix' u => ?_)
        · rcases hx with hx | hx
          · rw [kk2 x hx]; exact ⟨by decide, by decide⟩
          · rw [hx, kn2]; exact ⟨by decide, by decide⟩
        · rcases u with u | u
          · have := (hN2 x u).2
            rw [← (hN2 x u).1.2.2.2.1, hix'] at this
            omega
          · rw [u, kn2] at hx2
            omega
      refine blJ26_split_171 (fun e => ?_) (fun h1 e => ?_)
      · have eC : fh k Lf B = [] := by
          cases eq : fh k Lf B with
          | nil => rfl
          | cons y ys => rw [eq] at c2; have := c2.1; rw [e] at this; cases this
        refine blJ26_split_217 ⟨rfl, done G2 cf.rf (fun _ _ => rfl) rfl (bk_empty ?_ eC)⟩
        rw [t2 _ nne]
        exact n0.2
      · obtain ⟨ys, eC⟩ : ∃ ys, fh k Lf B = h1 :: ys := by
          cases eq : fh k Lf B with
          | nil => rw [eq] at c2; have : p8 = none := c2; rw [e] at this; cases this
          | cons y ys =>
            rw [eq] at c2
            have u := c2.1
            rw [e] at u
            exact ⟨ys, by rw [Option.some.inj u]⟩
        have h1C : h1 ∈ fh k Lf B := by rw [eC]; exact List.mem_cons_self
        rw [e] at c2' ⊢
        refine blJ26_split_176 (fun q => ?_) (fun q => ?_)
        · -- kept, or made a tree anew
          have gst : cf (fun x => x ∈ fh k Lf B ∨ x = n) G2 (hp_sR G2 n (i + 2 ^ k) (some h1)) := cf.rf.sR (Or.inl (Or.inr rfl))
          have rne : ∀ x ∈ fh k Lf B, hp_r (hp_sR G2 n (i + 2 ^ k) (some h1)) x = hp_r G2 x := fun x hx => by
            funext j
            rw [hp_r_sR, if_neg (fun u => nh (by rw [← u]; exact hx))]
          refine blJ26_split_198 rfl (by rw [eh2, ln2]; exact vin) nA (by rw [kn2]; decide) (by rw [kn2]; rfl) (fun b hb => ?_) (fun e6 => ?_) (fun o6 e6 => ?_)
          · rw [← Option.some.inj hb, kk2 h1 h1C]
            exact ⟨by decide, by decide, Or.inr (by decide)⟩
          · rw [eh2, cl2]
            have eB : fh k Lf B = B := by
              have e0 := hq6 e6
              unfold fh
              refine List.filter_eq_self.2 (fun x hx => ?_)
              rw [Bool.not_eq_true', decide_eq_false_iff_not]
              intro u
              have : x ∈ fl k Lf B := fl_mem.2 ⟨hx, u⟩
              rw [e0] at this
              cases this
            refine blJ26_split_217 ⟨rfl, done _ gst (fun j hj => by rw [hp_r_sR, if_pos rfl, if_neg hj]) rfl ?_⟩
            rw [hp_r_sR, if_pos rfl, if_pos rfl]
            have tb1 : tbn G1 Lf (fh k Lf B) := whole _ (fun x => by rw [eB]) ⟨h1, ⟨h1C, by rw [eC]; rfl⟩, by rw [← eB, eC]; rfl⟩ v2
            obtain ⟨r, xs, ps, lo, hi', q1, q2, q3, q4⟩ := tb1
            refine ⟨fh k Lf B, Lf, Vf, hch.fr _ _ rne c2', ⟨ndh, fun x hx => ⟨(hN2 x hx).1.fr (cf.rf.sR (own := fun x => x = n) (Or.inl rfl)) (fun b m u => st_cf (cf.rf.sR (own := fun x => x = n) (Or.inl rfl)) (fun x hx => by rw [hx, kn2]; exact ⟨by decide, by decide⟩) u) (fun u => nh (by rw [← u]; exact hx)), (hN2 x hx).2⟩, Or.inr ⟨r, xs, ps, lo, hi', q1, hpv.fr _ _ rne v2', q3.fr (fun x hx => ⟨by rw [hp_kd_sR, kk2 x hx, kk1 x (hBm x hx)], by rw [rne x hx, r2 x hx]⟩), q4⟩⟩, inj2, fun l v => Iff.rfl, rfl⟩
          · rw [eh2, cl2]
            have hN3 : ∀ x ∈ fh k Lf B, hn w (hp_sR G2 n (i + 2 ^ k) (some h1)) a x (Lf x) (Vf x) ∧ hp_kd (hp_sR G2 n (i + 2 ^ k) (some h1)) x = 25 ∧ hix (k + 1) (hx (Lf x)) = i + 2 ^ k := fun x hx => ⟨(hN2 x hx).1.fr (cf.rf.sR (own := fun x => x = n) (Or.inl rfl)) (fun b m u => st_cf (cf.rf.sR (own := fun x => x = n) (Or.inl rfl)) (fun x hx => by rw [hx, kn2]; exact ⟨by decide, by decide⟩) u) (fun u => nh (by rw [← u]; exact hx)), kk2 x hx, (hN2 x hx).2⟩
            refine blJ26_split_211 rfl (by rw [hp_kd_sR]; exact kk2 h1 h1C) (J26_treeify_C (d := 23) (i := i + 2 ^ k) (k := k + 1) (B := fh k Lf B) (Lf := Lf) (Vf := Vf) (by rw [hp_kd_sR]; exact kn2) nA ln2 (by omega) hN3 eC (by rw [hp_r_sR, if_pos rfl, if_pos rfl]; exact hch.fr _ _ rne c2') (hpv.fr _ _ rne v2') ndh inj2 hcmp (Nat.le_refl 23)) hd (Nat.zero_le _) ?_ (fun _ _ _ q => absurd q id)
            intro v G4 hP
            have hP' := hP
            obtain ⟨rfl, -, -, -, -, -, m5⟩ := hP'
            refine blJ26_split_217 ⟨rfl, done G4 (gst.tr m5.1) (fun j hj => by rw [m5.2.2.1 j hj, hp_r_sR, if_pos rfl, if_neg hj]) (m5.2.2.2.2 n) (bk_tf hP nh (fun x hx => ⟨(hN3 x hx).1, (hN3 x hx).2.2⟩) inj2 ndh (fun b m u => st_cf m5.1 (fun x hx => ?_) u))⟩
            rcases hx with hx | hx
            · rw [(hN3 x hx).2.1]; exact ⟨by decide, by decide⟩
            · rw [hx, hp_kd_sR, kn2]; exact ⟨by decide, by decide⟩
        · -- made a list again
          refine blJ26_split_183 rfl (kk2 h1 h1C) (J26_untreeify_C (d := 3) (a := a) ka2 eC c2' (fun x hx => by rw [kk2 x hx]; decide) (Nat.le_refl 3)) (by show 3 + 1 ≤ d; omega) hr ?_ (fun _ _ _ q => absurd q id)
          rintro v G3 ⟨ys', f, p, rfl, m1, m2, m3⟩
          have kn3 : hp_kd G3 n = 35 := by rw [m3.kd (by rw [kn2]; decide)]; exact kn2
          have n3 : hp_r G3 n = hp_r G2 n := m3.r (by rw [kn2]; decide) id
          have nys : ∀ y ∈ ys', y ≠ n := fun y hy e => by
            have := (m1.2.2 y hy).2.1
            rw [e, kn3] at this
            cases this
          rw [eh2]
          refine blJ26_split_194 rfl (by rw [m3.ln (by rw [kn2]; decide), ln2]; exact vin) nA (by rw [kn3]; decide) (by rw [kn3]; rfl) (fun b hb => ?_) ?_
          · cases ys' with
            | nil => have u : p = none := m2; rw [u] at hb; cases hb
            | cons y ys2 =>
              have u : p = some y := m2.1
              rw [u] at hb
              rw [← Option.some.inj hb, (m1.2.2 y List.mem_cons_self).2.1]
              exact ⟨by decide, by decide, Or.inl rfl⟩
          · rw [cl2]
            have gst : cf (fun x => x ∈ fh k Lf B ∨ x = n) G2 (hp_sR G3 n (i + 2 ^ k) p) := (m3.mono (fun _ _ u => u.elim)).sR (Or.inl (Or.inr rfl))
            have b3 := bk_cpn m1 m2 ndh hN2 inj2 (fun b m u => st_cf m3 (fun x hx => hx.elim) u) (fun x hx => m3.kd hx)
            refine blJ26_split_217 ⟨rfl, done _ gst (fun j hj => by rw [hp_r_sR, if_pos rfl, if_neg hj, n3]) (by show hp_l G3 n = hp_l G2 n; rw [m3.l (by rw [kn2]; decide) id]) ?_⟩
            rw [hp_r_sR, if_pos rfl, if_pos rfl]
            refine b3.fr (cf.rf.sR (own := fun x => x = n) (Or.inl rfl)) (fun b m u => st_cf (cf.rf.sR (own := fun x => x = n) (Or.inl rfl)) (fun x hx => by rw [hx, kn3]; exact ⟨by decide, by decide⟩) u) (fun x hx1 hx2 _ _ u => ?_)
            rw [u, kn3] at hx2
            omega
    have kx1 : ∀ x ∈ fl k Lf B, hp_kd G1 x ≠ 0 := fun x hx => by rw [kk1 x (fB x hx)]; decide
    have inj1 : ∀ x ∈ fl k Lf B, ∀ y ∈ fl k Lf B, Lf x = Lf y → x = y := fun x hx y hy => hinj x (fB x hx) y (fB y hy)
    have hN1' : ∀ x ∈ fl k Lf B, hn w G1 a x (Lf x) (Vf x) ∧ hix (k + 1) (hx (Lf x)) = i := fun x hx => ⟨hN1 x (fB x hx), bitl x hx⟩
    have vin : vp_in (nI i) (2 ^ (k + 1)) := vp_in_nI (by omega) (by omega)
    refine blJ26_split_131 (fun e => ?_) (fun h1 e => ?_)
    · have eC : fl k Lf B = [] := by
        cases eq : fl k Lf B with
        | nil => rfl
        | cons y ys => rw [eq] at c1; have := c1.1; rw [e] at this; cases this
      exact high G1 p6 B.length (by omega) cf.rf (fun j _ => by rw [t1]) (g1.2.2.2.2 n) (bk_empty (by rw [t1]; exact n0.1) eC) (fun _ => eC)
    · obtain ⟨ys, eC⟩ : ∃ ys, fl k Lf B = h1 :: ys := by
        cases eq : fl k Lf B with
        | nil => rw [eq] at c1; have : p6 = none := c1; rw [e] at this; cases this
        | cons y ys =>
          rw [eq] at c1
          have u := c1.1
          rw [e] at u
          exact ⟨ys, by rw [Option.some.inj u]⟩
      have h1C : h1 ∈ fl k Lf B := by rw [eC]; exact List.mem_cons_self
      rw [e] at c1 ⊢
      refine blJ26_split_136 (fun q => ?_) (fun q => ?_)
      · have gst : cf (fun x => x ∈ fl k Lf B ∨ x = n) G1 (hp_sR G1 n i (some h1)) := cf.rf.sR (Or.inl (Or.inr rfl))
        have rne : ∀ x ∈ fl k Lf B, hp_r (hp_sR G1 n i (some h1)) x = hp_r G1 x := fun x hx => by
          funext j
          rw [hp_r_sR, if_neg (fun u => nl (by rw [← u]; exact hx))]
        refine blJ26_split_155 rfl (by rw [ln1]; exact vin) nA (by rw [kn1]; decide) (by rw [kn1]; rfl) (fun b hb => ?_) (fun e8 => ?_) (fun o8 e8 => ?_)
        · rw [← Option.some.inj hb, kk1 h1 (fB h1 h1C)]
          exact ⟨by decide, by decide, Or.inr (by decide)⟩
        · rw [cl1]
          have eH : fh k Lf B = [] := by
            cases eq : fh k Lf B with
            | nil => rfl
            | cons y ys => rw [eq] at c2; have := c2.1; rw [e8] at this; cases this
          have eB : fl k Lf B = B := by
            unfold fl
            refine List.filter_eq_self.2 (fun x hx => ?_)
            rw [decide_eq_true_iff]
            refine Decidable.byContradiction fun u => ?_
            have : x ∈ fh k Lf B := fh_mem.2 ⟨hx, u⟩
            rw [eH] at this
            cases this
          refine high _ (some h1) B.length (by omega) gst (fun j hj => by rw [hp_r_sR, if_pos rfl, if_neg hj, t1]) (g1.2.2.2.2 n) ?_ (fun u => by cases u)
          rw [hp_r_sR, if_pos rfl, if_pos rfl]
          have tb1 : tbn G1 Lf (fl k Lf B) := whole _ (fun x => by rw [eB]) ⟨h1, ⟨h1C, by rw [eC]; rfl⟩, by rw [← eB, eC]; rfl⟩ v1
          obtain ⟨r, xs, ps, lo, hi', q1, q2, q3, q4⟩ := tb1
          refine ⟨fl k Lf B, Lf, Vf, hch.fr _ _ rne c1, ⟨ndl, fun x hx => ⟨(hN1' x hx).1.fr (cf.rf.sR (own := fun x => x = n) (Or.inl rfl)) (fun b m u => st_cf (cf.rf.sR (own := fun x => x = n) (Or.inl rfl)) (fun x hx => by rw [hx, kn1]; exact ⟨by decide, by decide⟩) u) (fun u => nl (by rw [← u]; exact hx)), (hN1' x hx).2⟩, Or.inr ⟨r, xs, ps, lo, hi', q1, hpv.fr _ _ rne q2, q3.fr (fun x hx => ⟨rfl, rne x hx⟩), q4⟩⟩, inj1, fun l v => Iff.rfl, rfl⟩
        · rw [cl1]
          have hN3 : ∀ x ∈ fl k Lf B, hn w (hp_sR G1 n i (some h1)) a x (Lf x) (Vf x) ∧ hp_kd (hp_sR G1 n i (some h1)) x = 25 ∧ hix (k + 1) (hx (Lf x)) = i := fun x hx => ⟨(hN1' x hx).1.fr (cf.rf.sR (own := fun x => x = n) (Or.inl rfl)) (fun b m u => st_cf (cf.rf.sR (own := fun x => x = n) (Or.inl rfl)) (fun x hx => by rw [hx, kn1]; exact ⟨by decide, by decide⟩) u) (fun u => nl (by rw [← u]; exact hx)), kk1 x (fB x hx), (hN1' x hx).2⟩
          refine blJ26_split_165 rfl (by rw [hp_kd_sR]; exact kk1 h1 (fB h1 h1C)) (J26_treeify_C (d := 23) (i := i) (k := k + 1) (B := fl k Lf B) (Lf := Lf) (Vf := Vf) (by rw [hp_kd_sR]; exact kn1) nA ln1 (by omega) hN3 eC (by rw [hp_r_sR, if_pos rfl, if_pos rfl]; exact hch.fr _ _ rne c1) (hpv.fr _ _ rne v1) ndl inj1 hcmp (Nat.le_refl 23)) hd (Nat.zero_le _) ?_ (fun _ _ _ q => absurd q id)
          intro v G4 hP
          have hP' := hP
          obtain ⟨rfl, -, -, -, -, -, m5⟩ := hP'
          refine high G4 (some h1) _ (by omega) (gst.tr m5.1) (fun j hj => by rw [m5.2.2.1 j hj, hp_r_sR, if_pos rfl, if_neg hj, t1]) ((m5.2.2.2.2 n).trans (g1.2.2.2.2 n)) (bk_tf hP nl (fun x hx => ⟨(hN3 x hx).1, (hN3 x hx).2.2⟩) inj1 ndl (fun b m u => st_cf m5.1 (fun x hx => ?_) u)) (fun u => by cases u)
          rcases hx with hx | hx
          · rw [(hN3 x hx).2.1]; exact ⟨by decide, by decide⟩
          · rw [hx, hp_kd_sR, kn1]; exact ⟨by decide, by decide⟩
      · refine blJ26_split_143 rfl (kk1 h1 (fB h1 h1C)) (J26_untreeify_C (d := 3) (a := a) ka1 eC c1 (fun x hx => by rw [kk1 x (fB x hx)]; decide) (Nat.le_refl 3)) (by show 3 + 1 ≤ d; omega) (by omega) ?_ (fun _ _ _ q => absurd q id)
        rintro v G3 ⟨ys', f, p, rfl, m1, m2, m3⟩
        have kn3 : hp_kd G3 n = 35 := by rw [m3.kd (by rw [kn1]; decide)]; exact kn1
        have n3 : hp_r G3 n = hp_r G1 n := m3.r (by rw [kn1]; decide) id
        refine blJ26_split_151 rfl (by rw [m3.ln (by rw [kn1]; decide), ln1]; exact vin) nA (by rw [kn3]; decide) (by rw [kn3]; rfl) (fun b hb => ?_) ?_
        · cases ys' with
          | nil => have u : p = none := m2; rw [u] at hb; cases hb
          | cons y ys2 =>
            have u : p = some y := m2.1
            rw [u] at hb
            rw [← Option.some.inj hb, (m1.2.2 y List.mem_cons_self).2.1]
            exact ⟨by decide, by decide, Or.inl rfl⟩
        · rw [cl1]
          have gst : cf (fun x => x ∈ fl k Lf B ∨ x = n) G1 (hp_sR G3 n i p) := (m3.mono (fun _ _ u => u.elim)).sR (Or.inl (Or.inr rfl))
          have b3 := bk_cpn m1 m2 ndl hN1' inj1 (fun b m u => st_cf m3 (fun x hx => hx.elim) u) (fun x hx => m3.kd hx)
          refine high _ (some h1) _ (by omega) gst (fun j hj => by rw [hp_r_sR, if_pos rfl, if_neg hj, n3, t1]) (by show hp_l G3 n = hp_l G n; rw [m3.l (by rw [kn1]; decide) id]; exact g1.2.2.2.2 n) ?_ (fun u => by cases u)
          rw [hp_r_sR, if_pos rfl, if_pos rfl]
          refine b3.fr (cf.rf.sR (own := fun x => x = n) (Or.inl rfl)) (fun b m u => st_cf (cf.rf.sR (own := fun x => x = n) (Or.inl rfl)) (fun x hx => by rw [hx, kn3]; exact ⟨by decide, by decide⟩) u) (fun x hx1 hx2 _ _ u => ?_)
          rw [u, kn3] at hx2
          omega
  have main : ∀ (rest P : List Nat) (G1 : GH) (p6 p8 p12 : Option Nat), B = P ++ rest → lf B n i G G1 → hp_r G1 n = hp_r G n → hch G1 p6 (fl k Lf P) → hpv G1 none (fl k Lf P) → hch G1 p8 (fh k Lf P) → hpv G1 none (fh k Lf P) → (∀ x ∈ rest, hp_r G1 x 3 = hp_r G x 3) → hch G p12 rest →
      wk_V w mJ26_split (d, B.length, (fun v G' => v = none ∧ sp_P w G a n k i B Lf Vf G'), (fun _ _ _ => False), hp_cs G, hp_ss G) 25 [(1, vR (some a)), (2, vR (some n)), (3, vI (nI i)), (4, vI (nI (2 ^ k))), (6, vR p6), (7, vR (lst none (fl k Lf P))), (8, vR p8), (9, vR (lst none (fh k Lf P))), (10, vI (nI (fl k Lf P).length)), (11, vI (nI (fh k Lf P).length)), (12, vR p12)] [] G1 B.length := by
    intro rest
    induction rest with
    | nil =>
      intro P G1 p6 p8 p12 e1 h1 h2 h3 h4 h5 h6 h7 h8
      have e : p12 = none := h8
      subst e
      have eP : P = B := by rw [e1, List.append_nil]
      rw [eP] at h3 h4 h5 h6 ⊢
      exact blJ26_split_25 (fun _ => fin G1 p6 p8 h1 h2 h3 h4 h5 h6) (fun o e => by cases e)
    | cons x rest ih =>
      intro P G1 p6 p8 p12 e1 h1 h2 h3 h4 h5 h6 h7 h8
      have e : p12 = some x := h8.1
      subst e
      have xB : x ∈ B := by rw [e1]; exact List.mem_append_right _ List.mem_cons_self
      have xn : x ≠ n := fun e => nB (by rw [← e]; exact xB)
      have PB : ∀ y ∈ P, y ∈ B := fun y hy => by rw [e1]; exact List.mem_append_left _ hy
      have nd1 := nd
      rw [e1] at nd1
      obtain ⟨na, nb, nc⟩ := List.nodup_append.1 nd1
      have nb2 := List.nodup_cons.1 nb
      have xP : x ∉ P := fun u => nc x u x List.mem_cons_self rfl
      have rP : ∀ y ∈ rest, y ∉ P ∧ y ≠ x := fun y hy => ⟨fun u => nc y u y (List.mem_cons_of_mem _ hy) rfl, fun e => nb2.1 (by rw [← e]; exact hy)⟩
      have kk1 : ∀ y ∈ B, hp_kd G1 y = 25 := fun y hy => by rw [h1.1.kd (by rw [kB y hy]; decide)]; exact kB y hy
      have e1' : B = (P ++ [x]) ++ rest := by rw [e1, List.append_assoc]; rfl
      have hPlen : (P ++ [x]).length ≤ B.length := by rw [e1', List.length_append (as := P ++ [x])]; exact Nat.le_add_right _ _
      refine blJ26_split_25 (fun e => by cases e) (fun _ _ => ?_)
      have e3 : hp_r G1 x 3 = hp_r G x 3 := h7 x List.mem_cons_self
      have kc : ∀ b, hp_r G1 x 3 = some b → hp_kd G1 b ≠ 0 ∧ hp_kd G1 b < 28 ∧ hp_sub (hp_kd G1 b) "java/util/HashMap$TreeNode" := fun b hb => by
        rw [e3] at hb
        have h9 := h8.2
        cases rest with
        | nil => have u : hp_r G x 3 = none := h9; rw [u] at hb; cases hb
        | cons y ys =>
          have u : hp_r G x 3 = some y := h9.1
          rw [u] at hb
          rw [← Option.some.inj hb, kk1 y (by rw [e1]; exact List.mem_append_right _ (List.mem_cons_of_mem _ List.mem_cons_self))]
          exact ⟨by decide, by decide, Or.inl rfl⟩
      have g1 : lf B n i G (hp_sR G1 x 3 none) := h1.sR xB xn (Or.inl rfl)
      have ei : hp_i G1 x 0 = hx (Lf x) := by rw [h1.2.2.2.1]; exact hB0 x xB
      -- the heap once x is put behind the list pl
      have app : ∀ (pl ol : List Nat) (p : Option Nat) (G3 : GH), (∀ y ∈ pl, y ∈ P) → (∀ y ∈ ol, y ∈ P) → pl.Nodup → (∀ y ∈ ol, y ∉ pl) → hch G1 p pl → hpv G1 none pl → (∀ y, y ≠ n → ∀ j, hp_r G3 y j = if y = x then (if j = 3 then none else if j = 7 then lst none pl else hp_r G1 y j) else if lst none pl = some y ∧ j = 3 then some x else hp_r G1 y j) →
          hch G3 (if pl = [] then some x else p) (pl ++ [x]) ∧ hpv G3 none (pl ++ [x]) ∧ (∀ q, hch G1 q ol → hch G3 q ol) ∧ (hpv G1 none ol → hpv G3 none ol) ∧ ∀ y ∈ rest, hp_r G3 y 3 = hp_r G y 3 := by
        intro pl ol p G3 hpl hol ndp hdis hcp hvp hr
        have ny : ∀ y ∈ P, y ≠ n ∧ y ≠ x := fun y hy => ⟨fun e => nB (by rw [← e]; exact PB y hy), fun e => xP (by rw [← e]; exact hy)⟩
        have hz : ∀ z, lst none pl = some z → z ∈ pl := fun z hz => (lst_mem _ _ z hz).elim (fun e => by cases e) id
        obtain ⟨q1, q2⟩ := app_list (G := G1) (G' := G3) (q := x) hcp hvp ndp (fun y hy => by
            obtain ⟨u1, u2⟩ := ny y (hpl y hy)
            rw [hr y u1, if_neg u2]
            by_cases e : lst none pl = some y
            · rw [if_pos e, if_pos ⟨e, rfl⟩]
            · rw [if_neg e, if_neg (fun v => e v.1)]) (fun y hy => by
            obtain ⟨u1, u2⟩ := ny y (hpl y hy)
            rw [hr y u1, if_neg u2, if_neg (fun v => absurd v.2 (by decide))]) (by rw [hr x xn, if_pos rfl, if_pos rfl]) (by rw [hr x xn, if_pos rfl, if_neg (by decide), if_pos rfl])
        have ko : ∀ y ∈ ol, ∀ j, hp_r G3 y j = hp_r G1 y j := fun y hy j => by
          obtain ⟨u1, u2⟩ := ny y (hol y hy)
          rw [hr y u1, if_neg u2, if_neg (fun v => hdis y hy (hz y v.1))]
        refine ⟨q1, q2, fun q hq => hq.fr3 (fun y hy => ko y hy 3), hpv.fr7 _ _ (fun y hy => ko y hy 7), fun y hy => ?_⟩
        have yn : y ≠ n := fun e => nB (by rw [← e, e1]; exact List.mem_append_right _ (List.mem_cons_of_mem _ hy))
        rw [hr y yn, if_neg (rP y hy).2, if_neg (fun v => (rP y hy).1 (hpl y (hz y v.1)))]
        exact h7 y (List.mem_cons_of_mem _ hy)
      have fsub : ∀ y ∈ fl k Lf P, y ∈ P := fun y hy => (fl_mem.1 hy).1
      have hsub : ∀ y ∈ fh k Lf P, y ∈ P := fun y hy => (fh_mem.1 hy).1
      have dis1 : ∀ y ∈ fh k Lf P, y ∉ fl k Lf P := fun y hy u => (fh_mem.1 hy).2 (fl_mem.1 u).2
      have dis2 : ∀ y ∈ fl k Lf P, y ∉ fh k Lf P := fun y hy u => (fh_mem.1 u).2 (fl_mem.1 hy).2
      have nfl : (fl k Lf P).Nodup := List.Pairwise.filter _ na
      have nfh : (fh k Lf P).Nodup := List.Pairwise.filter _ na
      have kx : ∀ (v : Option Nat), hp_kd (hp_sR (hp_sR G1 x 3 none) x 7 v) x = 25 := fun _ => kk1 x xB
      have hrz : ∀ (pl : List Nat) (G3 : GH), (∀ y ∈ pl, y ∈ P) → ((lst none pl = none ∧ G3 = hp_sR (hp_sR G1 x 3 none) x 7 (lst none pl)) ∨ ∃ z, lst none pl = some z ∧ G3 = hp_sR (hp_sR (hp_sR G1 x 3 none) x 7 (lst none pl)) z 3 (some x)) →
          (∀ y, y ≠ n → ∀ j, hp_r G3 y j = if y = x then (if j = 3 then none else if j = 7 then lst none pl else hp_r G1 y j) else if lst none pl = some y ∧ j = 3 then some x else hp_r G1 y j) ∧ lf B n i G G3 ∧ hp_r G3 n = hp_r G n := by
        intro pl G3 hpl h
        have base : ∀ y j, hp_r (hp_sR (hp_sR G1 x 3 none) x 7 (lst none pl)) y j = if y = x then (if j = 3 then none else if j = 7 then lst none pl else hp_r G1 y j) else hp_r G1 y j := fun y j => by
          rw [hp_r_sR, hp_r_sR]
          by_cases e : y = x
          · rw [if_pos e, if_pos e, if_pos e]
            by_cases e7 : j = 7
            · rw [if_pos e7, if_neg (by omega), if_pos e7]
            · rw [if_neg e7]
              by_cases e3 : j = 3
              · rw [if_pos e3, if_pos e3]
              · rw [if_neg e3, if_neg e3, if_neg e7]
          · rw [if_neg e, if_neg e, if_neg e]
        have b2 : lf B n i G (hp_sR (hp_sR G1 x 3 none) x 7 (lst none pl)) := g1.sR xB xn (Or.inr rfl)
        have b3 : hp_r (hp_sR (hp_sR G1 x 3 none) x 7 (lst none pl)) n = hp_r G n := by
          funext j
          rw [base, if_neg xn.symm, h2]
        rcases h with ⟨e, rfl⟩ | ⟨z, e, rfl⟩
        · refine ⟨fun y hy j => ?_, b2, b3⟩
          rw [base]
          by_cases ey : y = x
          · rw [if_pos ey, if_pos ey]
          · rw [if_neg ey, if_neg ey, if_neg (fun v => by rw [e] at v; cases v.1)]
        · have zP : z ∈ P := hpl z ((lst_mem _ _ z e).elim (fun e => by cases e) id)
          have zx : z ≠ x := fun e => xP (by rw [← e]; exact zP)
          have zn : z ≠ n := fun e => nB (by rw [← e]; exact PB z zP)
          refine ⟨fun y hy j => ?_, b2.sR (PB z zP) zn (Or.inl rfl), ?_⟩
          · rw [hp_r_sR, base]
            by_cases ez : y = z
            · have ex : y ≠ x := fun u => zx (ez.symm.trans u)
              rw [if_pos ez, if_neg ex, if_neg ex]
              by_cases e3 : j = 3
              · rw [if_pos e3, if_pos ⟨by rw [ez]; exact e, e3⟩]
              · rw [if_neg e3, if_neg (fun v => e3 v.2)]
            · rw [if_neg ez]
              by_cases ey : y = x
              · rw [if_pos ey, if_pos ey]
              · rw [if_neg ey, if_neg ey, if_neg (fun v => ez (Option.some.inj (v.1.symm.trans e)))]
          · funext j
            rw [hp_r_sR, if_neg zn.symm, b3]
      have lnil : ∀ pl : List Nat, lst none pl = none → pl = [] := fun pl h => by
        cases pl with
        | nil => rfl
        | cons y ys =>
          exfalso
          have key : ∀ (xs : List Nat) (y : Nat), lst (some y) xs ≠ none := by
            intro xs
            induction xs with
            | nil => intro y h; cases h
            | cons v vs ih => intro y h; exact ih v h
          exact key ys y h
      have lne : ∀ (pl : List Nat) (z : Nat), lst none pl = some z → pl ≠ [] := fun pl z h e => by rw [e] at h; cases h
      refine blJ26_split_30 rfl (kk1 x xB) kc (AB x xB) (fun q => ?_) (fun q => ?_)
      all_goals rw [ei] at q
      all_goals rw [e3]
      · -- the bit is set
        have efl : fl k Lf (P ++ [x]) = fl k Lf P := by rw [fl_snoc, if_neg q]
        have efh : fh k Lf (P ++ [x]) = fh k Lf P ++ [x] := by rw [fh_snoc, if_neg q]
        have nxt : ∀ G3 p8', ((lst none (fh k Lf P) = none ∧ G3 = hp_sR (hp_sR G1 x 3 none) x 7 (lst none (fh k Lf P))) ∨ ∃ z, lst none (fh k Lf P) = some z ∧ G3 = hp_sR (hp_sR (hp_sR G1 x 3 none) x 7 (lst none (fh k Lf P))) z 3 (some x)) → p8' = (if fh k Lf P = [] then some x else p8) →
            wk_V w mJ26_split (d, B.length, (fun v G' => v = none ∧ sp_P w G a n k i B Lf Vf G'), (fun _ _ _ => False), hp_cs G, hp_ss G) 117 [(1, vR (some a)), (2, vR (some n)), (3, vI (nI i)), (4, vI (nI (2 ^ k))), (6, vR p6), (7, vR (lst none (fl k Lf P))), (8, vR p8'), (10, vI (nI (fl k Lf P).length)), (11, vI (nI (fh k Lf P).length)), (12, vR (some x)), (13, vR (hp_r G x 3))] [] G3 B.length := by
          intro G3 p8' hG3 hp8
          obtain ⟨z1, z2, z3⟩ := hrz _ G3 hsub hG3
          obtain ⟨y1, y2, y3, y4, y5⟩ := app (fh k Lf P) (fl k Lf P) p8 G3 hsub fsub nfh dis2 h5 h6 z1
          rw [← hp8] at y1
          refine blJ26_split_117 (blJ26_split_124 ?_)
          have := ih (P ++ [x]) G3 p6 p8' (hp_r G x 3) e1' z2 z3 (by rw [efl]; exact y3 _ h3) (by rw [efl]; exact y4 h4) (by rw [efh]; exact y1) (by rw [efh]; exact y2) y5 h8.2
          rw [efl, efh, lst_app, List.length_append] at this
          rw [nI_1]
          exact this
        refine blJ26_split_92 rfl (kk1 x xB) (AB x xB) (fun z hz => ?_) (fun hz => ?_)
        · have zP : z ∈ P := hsub z ((lst_mem _ _ z hz).elim (fun e => by cases e) id)
          refine blJ26_split_110 hz (kk1 z (PB z zP)) (AB z (PB z zP)) (nxt _ p8 (Or.inr ⟨z, hz, rfl⟩) (by rw [if_neg (lne _ z hz)]))
        · exact blJ26_split_103 (nxt _ (some x) (Or.inl ⟨hz, rfl⟩) (by rw [if_pos (lnil _ hz)]))
      · have efl : fl k Lf (P ++ [x]) = fl k Lf P ++ [x] := by rw [fl_snoc, if_pos q]
        have efh : fh k Lf (P ++ [x]) = fh k Lf P := by rw [fh_snoc, if_pos q]
        have nxt : ∀ G3 p6', ((lst none (fl k Lf P) = none ∧ G3 = hp_sR (hp_sR G1 x 3 none) x 7 (lst none (fl k Lf P))) ∨ ∃ z, lst none (fl k Lf P) = some z ∧ G3 = hp_sR (hp_sR (hp_sR G1 x 3 none) x 7 (lst none (fl k Lf P))) z 3 (some x)) → p6' = (if fl k Lf P = [] then some x else p6) →
            wk_V w mJ26_split (d, B.length, (fun v G' => v = none ∧ sp_P w G a n k i B Lf Vf G'), (fun _ _ _ => False), hp_cs G, hp_ss G) 82 [(1, vR (some a)), (2, vR (some n)), (3, vI (nI i)), (4, vI (nI (2 ^ k))), (6, vR p6'), (8, vR p8), (9, vR (lst none (fh k Lf P))), (10, vI (nI (fl k Lf P).length)), (11, vI (nI (fh k Lf P).length)), (12, vR (some x)), (13, vR (hp_r G x 3))] [] G3 B.length := by
          intro G3 p6' hG3 hp6
          obtain ⟨z1, z2, z3⟩ := hrz _ G3 fsub hG3
          obtain ⟨y1, y2, y3, y4, y5⟩ := app (fl k Lf P) (fh k Lf P) p6 G3 fsub hsub nfl dis1 h3 h4 z1
          rw [← hp6] at y1
          refine blJ26_split_82 (blJ26_split_124 ?_)
          have := ih (P ++ [x]) G3 p6' p8 (hp_r G x 3) e1' z2 z3 (by rw [efl]; exact y1) (by rw [efl]; exact y2) (by rw [efh]; exact y3 _ h5) (by rw [efh]; exact y4 h6) y5 h8.2
          rw [efl, efh, lst_app, List.length_append] at this
          rw [nI_1]
          exact this
        refine blJ26_split_57 rfl (kk1 x xB) (AB x xB) (fun z hz => ?_) (fun hz => ?_)
        · have zP : z ∈ P := fsub z ((lst_mem _ _ z hz).elim (fun e => by cases e) id)
          refine blJ26_split_75 hz (kk1 z (PB z zP)) (AB z (PB z zP)) (nxt _ p6 (Or.inr ⟨z, hz, rfl⟩) (by rw [if_neg (lne _ z hz)]))
        · exact blJ26_split_68 (nxt _ (some x) (Or.inl ⟨hz, rfl⟩) (by rw [if_pos (lnil _ hz)]))
  refine main B [] G none none (some h0) rfl lf.id0 rfl rfl trivial rfl trivial (fun _ _ => rfl) hc
end
