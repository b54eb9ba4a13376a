/-! instant of the reference: one variable -/
set_option maxRecDepth 100000
/-- the part that defines v; the argument that gives the input v -/
def is_b (σ : MS) (v : Nat) : Nat := jg_n (σ.2 27 (jg_n (σ.2 46 (cv_w σ v))))
def is_a (σ : MS) (v : Nat) : Nat := (kls σ (jg_n (σ.2 58 (cv_x σ v)))).getD (jg_n (σ.2 64 v)) 0
/-- the state behind the work for v -/
def is_s (σ : MS) (v : Nat) : MS := if σ.2 64 v < σ.2 13 (cv_g σ v) then (if 0 ≤ σ.2 57 (cv_x σ v) then po_a σ (jg_n (σ.2 57 (cv_x σ v))) (is_a σ v) else σ) else (if σ.2 32 (is_b σ v) = 3 then σ else po_a σ (cv_x σ v) (is_b σ v))
/-- the variable that the call gives -/
def is_o (σ : MS) (v : Nat) : Int32 := σ.2 59 (σ.2 62 (σ.2 61 (cv_x σ v) + σ.2 37 (is_b σ v)).toNatClampNeg).toNatClampNeg + σ.2 13 (σ.2 33 (is_b σ v)).toNatClampNeg + σ.2 47 (cv_w σ v)
def is_v (σ : MS) (v : Nat) : Int32 := if σ.2 64 v < σ.2 13 (cv_g σ v) then (if 0 ≤ σ.2 57 (cv_x σ v) then (is_s σ v).2 77 (is_a σ v) else σ.2 73 (σ.2 64 v).toNatClampNeg) else (if σ.2 32 (is_b σ v) = 3 then σ.2 74 (is_o σ v).toNatClampNeg else (is_s σ v).2 77 (is_b σ v))
def is1 (σ : MS) (v : Nat) : MS := if md_pr σ 60 (cv_x σ v) (σ.2 22 (cv_w σ v)) = true then ml_sa (ml_sa (is_s σ v) 74 v (is_v σ v)) 78 v 1 else σ
theorem is_s_2 {σ : MS} {v q : Nat} (h : q ≠ 77) : (is_s σ v).2 q = σ.2 q := by
  unfold is_s
  split
  · split
    · exact po_a_2 h
    · rfl
  · split
    · rfl
    · exact po_a_2 h
theorem is_s_1 {σ : MS} {v : Nat} : (is_s σ v).1 = σ.1 := by
  unfold is_s
  split
  · split
    · exact po_a_1
    · rfl
  · split
    · rfl
    · exact po_a_1
theorem is1_2 {σ : MS} {v q : Nat} (h : q ≠ 74) (h2 : q ≠ 77) (h3 : q ≠ 78) : (is1 σ v).2 q = σ.2 q := by
  unfold is1
  split
  · funext j
    rw [ml_sa_a, if_neg h3, ml_sa_a, if_neg h, is_s_2 h2]
  · rfl
theorem is1_1 {σ : MS} {v : Nat} : (is1 σ v).1 = σ.1 := by
  unfold is1
  split
  · exact is_s_1
  · rfl
section
variable {z : MZ} {T : Nat → Int32} {n : Nat} {S : MS} {A Q P L B M C : Nat → Nat} {I : Nat}
theorem is_step (h : rw_K T n S A Q P L) (hI : rw_I S I B M C) {σ : MS} (hS : ∀ q, q ≤ 64 → σ.2 q = S.2 q) {jm : MJ} {v j0 : Nat} {E : GH → Prop} (hv : v < B I) (hj : j0 < B I) (h70 : σ.2 70 j0 = nI v) (hd : 63 ≤ jm.1)
    (K : ∀ E, ml_V z mX6_instant jm 244 [(0, vR (some z.2.1)), (1, vI (nI j0))] [] (is1 σ v) E jm.2.1) :
    ml_V z mX6_instant jm 33 [(0, vR (some z.2.1)), (1, vI (nI j0))] [] σ E jm.2.1 := by
  obtain ⟨x, m, t, x1, x2, x3, x4, x5, x6, x7, x8, x9, x10, x11, x12⟩ := rw_var hI h hv
  obtain ⟨i, o, hn⟩ := h.1.2.1 m x2
  obtain ⟨d1, d2, d3, d4, d5, d6, d7⟩ := nf_cnt hn
  obtain ⟨v1, v2, v3, v4⟩ := rw_av h x2
  obtain ⟨⟨a1, a2, a3, a4, a5, a6⟩, ⟨b1, b2, b3, b4, b5, b6, b7, b8, b9, b10, b11, b12, b13, b14⟩, -, -, -, f1, -⟩ := id hn
  have hI32 : I ≤ 3200 := hI.1.2.2.2.2.2.2.1
  have hB6 : B I ≤ 6000 := hI.1.2.2.2.1
  have hN := rw_N h
  have ct : (nI t).toNatClampNeg = t := nI_clamp (by omega)
  have cj : (nI j0).toNatClampNeg = j0 := nI_clamp (by omega)
  have cv : (nI v).toNatClampNeg = v := nI_clamp (by omega)
  have cx : (nI x).toNatClampNeg = x := nI_clamp (by omega)
  have cm : (nI m).toNatClampNeg = m := nI_clamp (by omega)
  have cw : (nI (A m + t)).toNatClampNeg = A m + t := nI_clamp (by omega)
  have vx : vp_in (nI x) 3200 := vp_in_nI (by omega) (by decide)
  have vj : vp_in (nI j0) 6100 := vp_in_nI (by omega) (by decide)
  have vv : vp_in (nI v) 6100 := vp_in_nI (by omega) (by decide)
  have vm : vp_in (nI m) 61 := vp_in_nI (by omega) (by decide)
  have vm2 : vp_in (nI m) 60 := vp_in_nI (by omega) (by decide)
  have vw : vp_in (nI (A m + t)) 6000 := vp_in_nI (by omega) (by decide)
  have e63 : σ.2 63 v = nI x := by rw [hS 63 (by omega)]; exact x7
  have e64 : σ.2 64 v = nI t := by rw [hS 64 (by omega)]; exact x8
  have e56 : σ.2 56 x = nI m := by rw [hS 56 (by omega)]; exact x3
  have e12 : σ.2 12 m = nI (A m) := by rw [hS 12 (by omega)]; exact x12
  have ecx : cv_x σ v = x := by unfold cv_x jg_n; rw [e63, cx]
  have ecg : cv_g σ v = m := by unfold cv_g jg_n; rw [ecx, e56, cm]
  have ecw : cv_w σ v = A m + t := by unfold cv_w jg_n; rw [ecg, e12, e64, ct, nI_clamp (by omega)]
  have hq : S.2 22 (A m + t) = -1 ∨ ∃ w, w < 2 ^ 30 ∧ S.2 22 (A m + t) = nI w ∧ w / 2 < vcn S m := by
    have := f1 (A m + t) (by rw [v1]; omega) (by rw [v2]; omega)
    rw [v1] at this
    rcases this with r | ⟨w, w1, w2, w3, -⟩
    · exact Or.inl r
    · exact Or.inr ⟨w, w1, w2, by omega⟩
  refine mbinstant_33 (P := fun u σ' _ => u = some (vI (if md_pr σ 60 x (σ.2 22 (A m + t)) = true then 1 else 0)) ∧ σ' = σ) (PX := fun _ _ _ => False) (d' := 60) (b' := 0) vj (by rw [cj, h70]; exact vv) (by rw [cj, h70, cv, e63]; exact vx) (by rw [cj, h70, cv, e63, cx, e56]; exact vm) (by rw [cj, h70, cv, e63, cx, e56, cm, e12, e64, nI_add]; exact vw) (by rw [cj, h70, cv, e63, cx, e56, cm, e12, e64, nI_add, cw]; exact rw_present h hI hS x1 x3 x2 (by rw [hS 22 (by omega)]; exact hq) (by omega)) (by show 60 + 1 ≤ jm.1; omega) (Nat.zero_le _) (ml_krv fun σ2 g => ?_) ml_no
  subst g
  rw [cj, h70, cv, e63, cx, e56, e64]
  refine mbinstant_83 (fun w => ?_) (fun w => ?_)
  rotate_left
  · have w2 : ¬ md_pr σ2 60 x (σ2.2 22 (A m + t)) = true := fun y => by
      rw [if_pos y] at w
      exact absurd w (by decide)
    have e1 : is1 σ2 v = σ2 := by unfold is1; rw [ecx, ecw, if_neg w2]
    rw [e1] at K
    exact mbinstant_86 (K _)
  have w2 : md_pr σ2 60 x (σ2.2 22 (A m + t)) = true := Decidable.byContradiction fun y => w (by rw [if_neg y])
  have e1 : is1 σ2 v = ml_sa (ml_sa (is_s σ2 v) 74 v (is_v σ2 v)) 78 v 1 := by unfold is1; rw [ecx, ecw, if_pos w2]
  rw [e1] at K
  have fin : ∀ E, ml_V z mX6_instant jm 237 [(0, vR (some z.2.1)), (1, vI (nI j0)), (2, vI (nI v))] [] (ml_sa (is_s σ2 v) 74 v (is_v σ2 v)) E jm.2.1 := fun E => by
    refine mbinstant_237 vv ?_
    rw [cv]
    exact K _
  have fin2 : ∀ u E, u = is_v σ2 v → ml_V z mX6_instant jm 236 [(0, vR (some z.2.1)), (1, vI (nI j0)), (2, vI (nI v))] [vI u, vI (nI v), vR (some (z.2.2.1 74))] (is_s σ2 v) E jm.2.1 := fun u E hu => by
    refine mbinstant_236 vv ?_
    rw [cv, hu]
    exact fin _
  have fin3 : ∀ u E, u = is_v σ2 v → ml_V z mX6_instant jm 186 [(0, vR (some z.2.1)), (1, vI (nI j0)), (2, vI (nI v))] [vI u, vI (nI v), vR (some (z.2.2.1 74))] (is_s σ2 v) E jm.2.1 := fun u E hu => by
    refine mbinstant_186 vv ?_
    rw [cv, hu]
    exact fin _
  refine mbinstant_89 vm (by rw [cm, e12, nI_add]; exact vw) vm2 (fun c => ?_) (fun c => ?_)
  · rw [cm] at c
    have c' : σ2.2 64 v < σ2.2 13 (cv_g σ2 v) := by rw [e64, ecg]; exact c
    have hit : t < jg_n (S.2 13 m) := by
      rw [hS 13 (by omega), a3] at c
      rw [a3, jg_n, nI_clamp (by omega)]
      exact Nat.lt_of_not_ge fun y => absurd c (Int32.not_lt.2 (nI_le y (by omega)))
    refine mbinstant_190 vx (fun u => ?_) (fun u => ?_)
    · rw [cx] at u
      have hx0 : ¬ S.2 57 x < 0 := by
        rw [← hS 57 (by omega)]
        exact Int32.not_lt.2 u
      obtain ⟨y, e, m', r1, r2, r3, r4, r5, r6, r7, r8, r9, r10, r11, r12, r13, r14, r15⟩ := rw_arg h hI x1 x3 x2 hx0 hit
      obtain ⟨z1, z2⟩ := r12 _ (getD_mem r14)
      have e57 : σ2.2 57 x = nI y := by rw [hS 57 (by omega)]; exact r2
      have e58 : σ2.2 58 x = nI e := by rw [hS 58 (by omega)]; exact r3
      have cy : (nI y).toNatClampNeg = y := nI_clamp (by omega)
      have ce : (nI e).toNatClampNeg = e := nI_clamp (by omega)
      have ekl : kls σ2 e = kls S e := by unfold kls; rw [hS 34 (by omega), hS 35 (by omega)]
      have ea : is_a σ2 v = (kls S e).getD t 0 := by unfold is_a jg_n; rw [ecx, e58, ce, e64, ct, ekl]
      have es : is_s σ2 v = po_a σ2 y ((kls S e).getD t 0) := by
        unfold is_s jg_n
        rw [if_pos c', ecx, if_pos u, e57, cy, ea]
      have ev : is_v σ2 v = (po_a σ2 y ((kls S e).getD t 0)).2 77 ((kls S e).getD t 0) := by
        unfold is_v
        rw [if_pos c', ecx, if_pos u, es, ea]
      refine mbinstant_214 (P := fun u σ' _ => u = some (vI (nI ((kls S e).getD t 0))) ∧ σ' = σ2) (PX := fun _ _ _ => False) (d' := 20) (b' := 0) vx (by rw [cx, e58]; exact X6_argument_C (by omega) (by rw [hS 34 (by omega), hS 35 (by omega)]; exact r11) (fun k hk => by have := r12 k hk; omega) r14 (by omega)) (by show 20 + 1 ≤ jm.1; omega) (Nat.zero_le _) (ml_krv fun σ3 g => ?_) ml_no
      subst g
      rw [cx, e57]
      refine mbinstant_233 (d' := 62) (b' := 0) (X6_partOf_C h hI hS (x := y) (m := m') (by omega) r4 r5 z1 (by omega) (by omega)) (by show 62 + 1 ≤ jm.1; omega) (Nat.zero_le _) (ml_krv fun σ4 g => ?_) ml_no
      subst g
      rw [← es]
      exact fin2 _ _ (by rw [ev, es])
    · rw [cx] at u
      have es : is_s σ2 v = σ2 := by
        unfold is_s
        rw [if_pos c', ecx, if_neg u]
      have ev : is_v σ2 v = σ2.2 73 t := by
        unfold is_v
        rw [if_pos c', ecx, if_neg u, e64, ct]
      refine mbinstant_204 (vp_in_nI (by omega) (by decide)) ?_
      rw [ct]
      have := fin2 (σ2.2 73 t) (fun _ => True) ev.symm
      rw [es] at this
      exact fun G a b _ => this G a b trivial
  · rw [cm] at c
    have c' : ¬ σ2.2 64 v < σ2.2 13 (cv_g σ2 v) := by rw [e64, ecg]; exact c
    have hit : jg_n (S.2 13 m) ≤ t := by
      rw [hS 13 (by omega), a3] at c
      rw [a3, jg_n, nI_clamp (by omega)]
      exact Nat.le_of_not_lt fun y => c (nI_lt y (by omega))
    obtain ⟨k, b, j, l1, k1, k2, k3, k4, k5, k6, k7, k8, k9, k10, k11, k12, k13⟩ := rw_def h x2 x6 hit
    have ck : (nI k).toNatClampNeg = k := nI_clamp (by omega)
    have cb : (nI b).toNatClampNeg = b := nI_clamp (by omega)
    have e46 : σ2.2 46 (A m + t) = nI k := by rw [hS 46 (by omega)]; exact k3
    have e47 : σ2.2 47 (A m + t) = nI (j - l1) := by rw [hS 47 (by omega)]; exact k8
    have e27 : σ2.2 27 k = nI b := by rw [hS 27 (by omega)]; exact k4
    have eb : is_b σ2 v = b := by unfold is_b jg_n; rw [ecw, e46, ck, e27, cb]
    have vk : vp_in (nI k) 17000 := vp_in_nI (by omega) (by decide)
    rw [cm, e12, nI_add, cw, e46]
    refine mbinstant_118 vk (by rw [ck, e27]; exact vp_in_nI (by omega) (by decide)) (fun q => ?_) (fun q => ?_)
    · rw [ck, e27, cb] at q
      have es : is_s σ2 v = po_a σ2 x b := by
        unfold is_s
        rw [if_neg c', eb, if_neg q, ecx]
      have ev : is_v σ2 v = (po_a σ2 x b).2 77 b := by
        unfold is_v
        rw [if_neg c', eb, if_neg q, es]
      refine mbinstant_174 (P := fun u σ' _ => u = some (vI ((po_a σ2 x b).2 77 b)) ∧ σ' = po_a σ2 x b) (PX := fun _ _ _ => False) (d' := 62) (b' := 0) vk (by rw [ck, e27]; exact X6_partOf_C h hI hS x1 x3 x2 k5 k6 (by omega)) (by show 62 + 1 ≤ jm.1; omega) (Nat.zero_le _) (ml_krv fun σ4 g => ?_) ml_no
      subst g
      rw [← es]
      exact fin3 _ _ (by rw [ev, es])
    · rw [ck, e27, cb] at q
      have q2 : S.2 32 b = 3 := by rw [← hS 32 (by omega)]; exact q
      have es : is_s σ2 v = σ2 := by
        unfold is_s
        rw [if_neg c', eb, if_pos q]
      obtain ⟨s, w', g, g1, g2, g3, g4, g5, g6, g7, g8, -⟩ := rw_call h hI x1 x3 x2 k5 k6 q2
      obtain ⟨u0, u1, u2⟩ := rw_out h hI x1 x3 x2 k5 k6 q2 (nf_outs hn k1 k2 k4 k6 k12 k9 k10 k13 q2)
      have eo : is_o σ2 v = nI u0 := by
        rw [← u2]
        unfold is_o
        rw [ecx, eb, ecw, e47, hS 59 (by omega), hS 62 (by omega), hS 61 (by omega), hS 37 (by omega), hS 13 (by omega), hS 33 (by omega)]
      have ev : is_v σ2 v = σ2.2 74 u0 := by
        unfold is_v
        rw [if_neg c', eb, if_pos q, eo, nI_clamp (by omega)]
      refine mbinstant_139 (P := fun u σ' _ => u = some (vI (nI u0)) ∧ σ' = σ2) (PX := fun _ _ _ => False) (d' := 1) (b' := 0) vk vm (by rw [cm, e12, nI_add]; exact vw) ?_ (by show 1 + 1 ≤ jm.1; omega) (Nat.zero_le _) (ml_krv fun σ3 g => ?_) ml_no
      · rw [ck, e27, cm, e12, nI_add, cw, e47]
        have := X6_output_C (z := z) (σ := σ2) (d := 1) (x := x) (e := b) (s := C x) (t := s) (y := w') (g := g) (i := nI (j - l1)) (by omega) (by omega) (by rw [hS 61 (by omega)]; exact g1) (by rw [hS 37 (by omega)]; exact g2) g3 (by rw [hS 62 (by omega)]; exact g4) (by omega) (by rw [hS 33 (by omega)]; exact g7) (by omega) (Nat.le_refl 1)
        have e9 : σ2.2 59 w' + σ2.2 13 g + nI (j - l1) = nI u0 := by
          rw [← eo]
          unfold is_o
          rw [ecx, eb, ecw, e47, hS 61 (by omega), g1, hS 37 (by omega), g2, nI_add, nI_clamp (n := C x + s) (by omega), hS 62 (by omega), g4, nI_clamp (n := w') (by omega), hS 33 (by omega), g7, nI_clamp (n := g) (by omega)]
        rw [e9] at this
        exact this
      · subst g
        refine mbinstant_170 (vp_in_nI (by omega) (by decide)) ?_
        rw [nI_clamp (n := u0) (by omega)]
        have := fin3 (σ3.2 74 u0) (fun _ => True) ev.symm
        rw [es] at this
        exact fun G a b _ => this G a b trivial
end
