/-! THE COMPONENT's finish: its end -/
set_option maxRecDepth 100000
section
variable {cq : Nat} {q : PZ} {S : MS} {X Q kq Pp Lf : Nat → Nat} {G G00 : GH} {k0 Lv hv cv Le ce lo Lc Lm Lr : Nat} {I F : Nat → Int32} {D B cs ss : Nat} {Pt : Option WV → GH → Prop} {PX : String → Nat → GH → Prop} {nml : List Nat} {T : Nat → Int32} {n i o : Nat} {TP TC TA : Nat → Nat}
/-- what finish leaves -/
def fnE (q : PZ) (S : MS) (X Q : Nat → Nat) (F : Nat → Int32) (kq : Nat → Nat) (i o lo k0 : Nat) (TP TC TA : Nat → Nat) (nml : List Nat) (cq : Nat) (G00 G' : GH) : Prop := nz q S X Q F kq (pr_a S) (pr_v S) i o lo (pr_p S) k0 (pr_k S) (qn q) G' ∧ (hp_i G' (qn q) 9 = nI (min (pr_k S - k0 + (pr_p S - lo) + sT TP S (cls S lo (pr_p S)) (cls S lo (pr_p S)).length) 1000000) ∧ hp_i G' (qn q) 10 = nI (min (nx_t nx_s (S.2 32) lo (pr_p S - lo) + sT TC S (cls S lo (pr_p S)) (cls S lo (pr_p S)).length) 1000000) ∧ hp_i G' (qn q) 11 = nI (min (pr_v S - pr_a S + sT TA S (cls S lo (pr_p S)) (cls S lo (pr_p S)).length) 1000000)) ∧ (rx q.1 no9 G00 G' ∧ rkk q.1 G00 G') ∧ rat q.1 cq G' ∧ (∃ nm, hp_r G' (qn q) 0 = some nm ∧ st q.1.1 G' nm nml) ∧ hp_r G' q.1.2.1 10 = some (qn q)
theorem X3_fin_6 (hD : 220 ≤ D) (hsn : sn G00) (hW : fcW q T n Q Pp Lf k0 lo S) (hI : fnI (fnB q S X lo G00 Lc Lm Lr nml cq) q Q k0 Lf (Lf (pr_k S)) S X G00 G Lv hv cv Le ce I) (hF : fcF q S X G F Pp Lf k0 (pr_k S)) (hI0 : ∀ k, I k = if k = 7 then nI i else if k = 8 then nI o else 0) (hT : nT q S TP TC TA G00) (hcN : ∀ x, lo ≤ x → x < pr_p S → S.2 32 x = 3 → jg_n (S.2 33 x) < pr_N S) (hfr : ∀ e, lo ≤ e → e < pr_p S → hp_kd G00 (X e) = 0) (hR0 : hp_kd G00 q.1.2.1 = 12) (hB0 : hp_kd G00 q.1.2.2.2.1 = 3) (hnd : [Lv, Le, Lc, Lm, Lr].Nodup) (hkq : ∀ k, k0 ≤ k → k < pr_k S → ∀ x, Pp k ≤ x → x < Pp (k + 1) → kq x = k) (hkq2 : ∀ x, lo ≤ x → x < pr_p S → k0 ≤ kq x ∧ kq x < pr_k S) (hLo : lo ≤ pr_p S)
    (hK : ∀ v, pr_a S ≤ v → v < pr_v S → qK q v = if v < pr_a S + i then 0 else if v < pr_a S + i + o then 1 else 2) (h26 : ∀ k, k0 ≤ k → k < pr_k S → jg_n (S.2 26 k) = Lf k ∧ jg_n (S.2 26 (k + 1)) = Lf (k + 1)) (hav : pr_a S ≤ pr_v S ∧ pr_v S ≤ 6000) (hLm : ∀ k, k0 ≤ k → k < pr_k S → Lf k0 ≤ Lf k ∧ Lf (k + 1) ≤ Lf (pr_k S)) (hLx : ∀ j, Lf k0 ≤ j → j < Lf (pr_k S) → ∃ k, k0 ≤ k ∧ k < pr_k S ∧ Lf k ≤ j ∧ j < Lf (k + 1))
    (K : ∀ G', fnE q S X Q F kq i o lo k0 TP TC TA nml cq G00 G' → Pt none G') :
    wk_V q.1.1 mX3_finish (D, B, Pt, PX, cs, ss) 207 [(0, vR (some q.1.2.1))] [] G (4 * (pr_p S - lo) + 30) := by
  obtain ⟨⟨⟨⟨a0, a1⟩, a3⟩, a2⟩, ⟨b1, b2, b3⟩, ⟨⟨l1, l2, l3', l4⟩, l5⟩, ⟨n1, n2, n3, n4, n5⟩, ⟨f0, k00⟩, Fv, hFv, hF1, hF2, hF3⟩ := id hI
  obtain ⟨⟨w1, w2, w3, w4, w5, w6⟩, ⟨w7, w8⟩, w9, w10⟩ := id hW
  obtain ⟨x1, ⟨d1, d2, d3⟩, hnm, hrat⟩ := id a1
  have pw1 : pw S lo (pr_p S) := fun e e1 e2 => by
    obtain ⟨k, z1, z2, z3, z4⟩ := loc_k (P := Pp) (e := e) (pr_k S - k0) k0 (by rw [w7]; exact e1) (by rw [show k0 + (pr_k S - k0) = pr_k S by omega, w8]; exact e2)
    obtain ⟨c, hw, -, -, hl⟩ := w9 k z1 (by omega)
    have := hw.2.2.2.2.2.2.2.2.2.1 e z3 z4
    exact ⟨by omega, this.2⟩
  have mo : ∀ x y, k0 ≤ x → x ≤ y → y ≤ pr_k S → Pp x ≤ Pp y := fun x y u1 u2 u3 => by
    have := mono_k (P := Pp) (q := k0) (q' := pr_k S) (fun z z1 z2 => by obtain ⟨c', hz, -⟩ := w9 z z1 z2; exact hz.2.2.2.2.1) (y - x) x u1 (by omega)
    rw [show x + (y - x) = y by omega] at this
    exact this
  have jb : ∀ k, k0 ≤ k → k < pr_k S → jg_n (S.2 27 k) = Pp (k + 1) - 1 := fun k u1 u2 => by
    obtain ⟨c, hw, -, hp, -⟩ := w9 k u1 u2
    rw [hw.2.2.2.1]
    exact nI_clamp (by omega)
  simp only [List.nodup_cons, List.mem_cons, List.not_mem_nil, or_false, not_or, not_false_eq_true, List.nodup_nil, and_true] at hnd
  obtain ⟨⟨y1, y2, y3, y4⟩, ⟨y5, y6, y7⟩, ⟨y8, y9⟩, y10⟩ := hnd
  have hl3 : l3 Lc Lm Lr := ⟨y8, y9, y10⟩
  have hgw : gtw q S X Q kq lo (pr_p S) (qn q) G := ⟨⟨a2.1.1, b3, b1, b2⟩, a0.2.1, x1, fun e e1 e2 => by
    obtain ⟨⟨L', c', z⟩, -⟩ := l5 (kq e) (hkq2 e e1 e2).1 (hkq2 e e1 e2).2
    exact z.1.1⟩
  have c0 : cls S lo lo = [] := by unfold cls; rw [Nat.sub_self]; rfl
  have m0 : mes S lo lo = [] := by unfold mes; rw [Nat.sub_self]; rfl
  have hgs : gs q S X Q kq lo (qn q) Lc Lm Lr lo 0 0 0 G := by
    have em : ∀ {L : Nat} {el : Nat → Option Nat}, al q.1.1 G L 0 0 (fun _ => none) → al q.1.1 G L 0 0 el := fun u => u.cg (fun j hj => absurd hj (Nat.not_lt_zero j))
    refine ⟨⟨d1.1, d1.2.2.1, by rw [c0]; exact em d1.2.2.2, Nat.zero_le _⟩, ⟨d2.1, d2.2.2.1, by rw [m0]; exact em d2.2.2.2, Nat.zero_le _⟩, ⟨d3.1, d3.2.2.1, by rw [c0]; exact em d3.2.2.2, Nat.zero_le _⟩, fun x u1 u2 => by omega, ?_⟩
    rw [a3, hI0, Nat.sub_self]
    rfl
  have hge : ge q S X Q (qn q) Le ce k0 G := ⟨⟨l1, l3', l4⟩, fun k u1 u2 => by
    obtain ⟨⟨L', c', z⟩, z2⟩ := l5 k u1 u2
    exact ⟨z.1.1, z2⟩⟩
  have hT0 : ∀ g, g < pr_N S → qN q g ≠ qn q := fun g hg u => by
    have := (hT g hg).1
    rw [u, n3.2.2.1] at this
    cases this
  have hg30 : 4 * (pr_p S - lo) + 30 = 4 * (pr_p S - Pp k0) + gpot S lo (Pp k0) 0 0 0 + 0 := by
    rw [w7]
    unfold gpot apot
    rw [c0, m0]
    rfl
  refine blX3_finish_207 ?_
  rw [hg30]
  have hin : hp_i G (qn q) 9 = nI (k0 - k0 + (Pp k0 - lo)) := by rw [a3, hI0, w7, Nat.sub_self, Nat.sub_self]; rfl
  have h4 := X3_fin_4 (A := 0) (D := D) (B := B) (cs := cs) (ss := ss) (Pt := Pt) (PX := PX) (q := q) (X := X) (Q := Q) (kq := kq) (t := qn q) (G0 := G) hD pw1 w4 w6 w5 hl3 ⟨y5, y6, y7⟩ w8 mo w7 (fun k u1 u2 => by
    obtain ⟨c, hw, -, hp, -⟩ := w9 k u1 u2
    exact ⟨hw.2.2.2.2.1, jb k u1 u2, hw.2.2.2.2.2.2.2.2.1⟩) hkq (fun G2 cc cm cr g1 g2 g3 g4 g5 => ?_) (pr_k S - k0) k0 G 0 0 0 (Nat.le_refl _) (by omega) hgw (by rw [w7]; exact hgs) hge gt2.rf hin rfl
  · rw [Nat.sub_self] at h4
    exact h4
  -- behind the loop
  have nn0 : hp_kd G00 (qn q) = 0 := n3.2.2.1
  have gdis : ∀ y, ((∃ e, lo ≤ e ∧ e < pr_p S ∧ y = X e) ∨ y = qn q ∨ al_o G Lc y ∨ al_o G Lm y ∨ al_o G Lr y) → hp_kd G00 y = 0 ∧ ((13 ≤ hp_kd G y ∧ hp_kd G y ≤ 21) ∨ hp_kd G y = 8 ∨ hp_kd G y = 22 ∨ hp_kd G y = 32) := by
    have hlist : ∀ L k y, ndl q G00 G (qn q) k L → al_o G L y → hp_kd G00 y = 0 ∧ ((13 ≤ hp_kd G y ∧ hp_kd G y ≤ 21) ∨ hp_kd G y = 8 ∨ hp_kd G y = 22 ∨ hp_kd G y = 32) := fun L k y u v => by
      have ky := al_ok v u.2.2.2.1.1
      refine ⟨?_, by omega⟩
      rcases v with v | ⟨v1, v2⟩
      · rw [v]; exact u.2.1
      · exact hsn.fresh f0.1 u.2.1 v1 (by rw [v2]; decide)
    rintro y (⟨e, u1, u2, u3⟩ | u | u | u | u)
    · rw [u3]; exact ⟨hfr e u1 u2, Or.inl (hgw.k u1 u2)⟩
    · rw [u]; exact ⟨nn0, Or.inr (Or.inl b1)⟩
    · exact hlist Lc 4 y d1 u
    · exact hlist Lm 5 y d2 u
    · exact hlist Lr 6 y d3 u
  have hTG : ∀ G', cf (fun y => (∃ e, lo ≤ e ∧ e < pr_p S ∧ y = X e) ∨ y = qn q ∨ al_o G Lc y ∨ al_o G Lm y ∨ al_o G Lr y) G G' → nT q S TP TC TA G' := fun G' hf g hg => by
    obtain ⟨u1, u2, u3, u4⟩ := hT g hg
    have k0' : hp_kd G00 (qN q g) ≠ 0 := by rw [u1]; decide
    have n0 : ¬ (no9 (qN q g) ∨ qN q g = q.1.2.1 ∨ qN q g = q.1.2.2.2.1 ∨ hp_kd G00 (qN q g) = 26) := by
      rintro (v | v | v | v)
      · exact v
      · rw [v, hR0] at u1; cases u1
      · rw [v, hB0] at u1; cases u1
      · rw [u1] at v; cases v
    have e1 := f0.1.i k0' n0
    have e2 := hf.i (f0.1.ne k0') (fun v => k0' (gdis _ v).1)
    exact ⟨hf.k (f0.1.k u1 (by decide)) (by decide), by rw [e2, e1]; exact u2, by rw [e2, e1]; exact u3, by rw [e2, e1]; exact u4⟩
  have nLv : ∀ y, al_o G Lv y → ¬ ((∃ e, lo ≤ e ∧ e < pr_p S ∧ y = X e) ∨ y = qn q ∨ al_o G Lc y ∨ al_o G Lm y ∨ al_o G Lr y) := by
    intro y u
    have ky := al_ok u n5.1.1
    rintro (⟨e, u1, u2, u3⟩ | v | v | v | v)
    · have := hgw.k u1 u2; rw [← u3] at this; omega
    · rw [v, b1] at ky; omega
    · exact al_dis2 y2 n5.1.1 d1.2.2.2.1.1 u v
    · exact al_dis2 y3 n5.1.1 d2.2.2.2.1.1 u v
    · exact al_dis2 y4 n5.1.1 d3.2.2.2.1.1 u v
  have hVG : ∀ G', gt2 S X lo (pr_p S) (qn q) Lc Lm Lr G G' → hp_r G' (qn q) 1 = some Lv ∧ ow G' Lv (qn q) ∧ al q.1.1 G' Lv (pr_v S - pr_a S) cv (fun j => some (qV q (pr_a S + j))) := fun G' hf => ⟨by rw [hf.2.2.1]; exact n1, n4.cg (hf.1.lg (by rw [n5.1.1]; decide)), n5.fr hf.1 (nLv Lv (Or.inl rfl)) (fun y hy hk => nLv y (Or.inr ⟨hy, hk⟩))⟩
  refine blX3_finish_283 ?_
  have hV2 := hVG G2 g3
  have s0 : ∀ TQ : Nat → Nat, sT TQ S (cls S lo (pr_p S)) 0 = 0 := fun TQ => rfl
  have b5000 : pr_k S - k0 + (pr_p S - lo) ≤ 1000000 := by omega
  have bnx : nx_t nx_s (S.2 32) lo (pr_p S - lo) ≤ 1000000 := by have := nx_t_le (g := nx_s) (B := S.2 32) (p := lo) nx_s_le (pr_p S - lo); omega
  refine X3_fin_5 (A := 0) (Lc := Lc) (cc := cc) (Lv := Lv) (cv := cv) (nv := pr_v S - pr_a S) (a0 := pr_k S - k0 + (pr_p S - lo)) (b0 := nx_t nx_s (S.2 32) lo (pr_p S - lo)) (TP := TP) (TC := TC) (TA := TA) (G0 := G2) (by omega) w4 hT0 (fun x hx => hcN x (cls_mem.1 hx).1.1 (cls_mem.1 hx).1.2 (cls_mem.1 hx).2) (by omega) (cls S lo (pr_p S)).length 0 G2 (by omega) g1 g2.1 ⟨hV2.1, hV2.2.2⟩ (hTG G2 g3.1) ⟨cf.rf, rfl, fun _ _ => rfl⟩ (by rw [g4, s0, Nat.add_zero, Nat.min_eq_left b5000]) (by rw [g2.2.2.2.2, s0, Nat.add_zero, Nat.min_eq_left bnx]) (by rw [g5, a3, hI0, s0]; rfl) (fun G3 h1 h2 h9 h10 h11 => K G3 ?_)
  -- the heap's way
  have kt2 : hp_kd G2 (qn q) = 8 := g1.1.2.2.1
  have g23 : gt2 S X lo (pr_p S) (qn q) Lc Lm Lr G2 G3 := ⟨h2.1.mono (fun _ _ u => Or.inr (Or.inl u)), fun e u1 u2 => by
    have kX := g1.k u1 u2
    have ne : ¬ X e = qn q := fun w => by rw [w, kt2] at kX; omega
    exact ⟨h2.1.r (by omega) ne, fun k _ => by rw [h2.1.i (by omega) ne]⟩, h2.2.1, h2.2.2⟩
  have gt := g3.tr g23
  have hrx : rx q.1 no9 G00 G3 := by
    have x := rx_of (z := q.1) gt.1 (fun y u => by have := (gdis y u).2; constructor <;> omega)
    exact f0.tr x (fun y hy u => absurd (gdis y u).1 hy)
  have nR : ¬ ((∃ e, lo ≤ e ∧ e < pr_p S ∧ q.1.2.1 = X e) ∨ q.1.2.1 = qn q ∨ al_o G Lc q.1.2.1 ∨ al_o G Lm q.1.2.1 ∨ al_o G Lr q.1.2.1) := fun u => by have := (gdis _ u).2; have := a2.1.1; omega
  have nTp : ¬ ((∃ e, lo ≤ e ∧ e < pr_p S ∧ q.1.2.2.1 = X e) ∨ q.1.2.2.1 = qn q ∨ al_o G Lc q.1.2.2.1 ∨ al_o G Lm q.1.2.2.1 ∨ al_o G Lr q.1.2.2.1) := fun u => by have := (gdis _ u).2; have := a2.2.2.1.1; omega
  have x := rx_of (z := q.1) gt.1 (fun y u => by have := (gdis y u).2; constructor <;> omega)
  have erR := gt.1.r (show hp_kd G q.1.2.1 ≠ 0 by rw [a2.1.1]; decide) nR
  have hV3 := hVG G3 gt
  have bcf : ∀ b c, bc q (pr_a S) G b c → bc q (pr_a S) G3 b c := fun b c u => u.fr gt.1 (fun y v => by have := (gdis y v).2; omega)
  have lf : ∀ L, al_o G2 L (qn q) → hp_kd G2 L = 22 → False := fun L u v => by have := al_ok u v; omega
  have gl3 : ∀ k L m c el, gl1 q G2 (qn q) k L m c el → lz q G3 (qn q) k m el := fun k L m c el u => by
    have := u.fr h2.1 h2.2.1 (fun y u1 u2 => lf L (by rw [← u2]; exact u1) u.2.2.1.1.1)
    exact ⟨L, c, this.1, this.2.1, this.2.2.1⟩
  refine ⟨⟨⟨h1.1.2.2.1, ?_, ?_⟩, ⟨Lv, cv, hV3⟩, gl3 4 Lc _ cc _ g2.1, gl3 5 Lm _ cm _ g2.2.1, gl3 6 Lr _ cr _ g2.2.2.1, fun v v1 v2 => ⟨?_, ?_⟩, fun k u1 u2 => ?_, fun e u1 u2 => ?_⟩, ⟨h9, h10, h11⟩, ⟨hrx, fun k hk => by rw [erR]; exact k00 k hk⟩, hrat.fr gt.1 x.2.2 nR nTp, ?_, by rw [erR]; exact b3⟩
  · rw [gt.2.2.2 7 (by decide), a3, hI0]; rfl
  · rw [gt.2.2.2 8 (by decide), a3, hI0]; rfl
  · obtain ⟨v3, v4, v5, v6, v7, bb, v8, v9⟩ := (hFv v v1 v2).fr2 gt.1 x.2.2 (fun y u => by have := (gdis y u).2; omega)
    exact ⟨v3.1, v5, by rw [v6]; exact hK v v1 v2, v7.1, bb, v8, v9.bc⟩
  · have v7 := ((hFv v v1 v2).fr2 gt.1 x.2.2 (fun y u => by have := (gdis y u).2; omega)).2.2.2.2.1.2
    rcases Classical.em (∃ k j, k0 ≤ k ∧ k < pr_k S ∧ Lf k ≤ j ∧ j < Lf (k + 1) ∧ v = pr_a S + jg_v S j) with ⟨k, j, z1, z2, z3, z4, z5⟩ | hno
    · refine Or.inl ⟨k, j, z1, z2, by rw [(h26 k z1 z2).1]; exact z3, by rw [(h26 k z1 z2).2]; exact z4, z5, ?_⟩
      rw [v7, z5]
      exact hF2 k j z1 z2 z3 z4 (by have := (hLm k z1 z2).2; omega)
    · refine Or.inr ⟨fun k j z1 z2 z3 z4 z5 => hno ⟨k, j, z1, z2, by rw [← (h26 k z1 z2).1]; exact z3, by rw [← (h26 k z1 z2).2]; exact z4, z5⟩, ?_⟩
      rw [v7]
      refine hF1 v v1 v2 (fun j j1 j2 e => ?_)
      obtain ⟨k, z1, z2, z3, z4⟩ := hLx j j1 j2
      exact hno ⟨k, j, z1, z2, z3, z4, e.symm⟩
  · obtain ⟨⟨L, c, z1, z2, z3⟩, z4⟩ := l5 k u1 u2
    have kk0 : hp_kd G (Q k) ≠ 0 := by rw [z1.1]; decide
    have nQ : ¬ ((∃ e, lo ≤ e ∧ e < pr_p S ∧ Q k = X e) ∨ Q k = qn q ∨ al_o G Lc (Q k) ∨ al_o G Lm (Q k) ∨ al_o G Lr (Q k)) := fun u => by have := (gdis _ u).2; have := z1.1; omega
    have ne : Q k ≠ qn q := fun w => by have := z1.1; rw [w, b1] at this; cases this
    have kL := z3.1.1
    have nL : ∀ y, al_o G L y → ¬ ((∃ e, lo ≤ e ∧ e < pr_p S ∧ y = X e) ∨ y = qn q ∨ al_o G Lc y ∨ al_o G Lm y ∨ al_o G Lr y) := by
      intro y u
      have ky := al_ok u kL
      rintro (⟨e, v1, v2, v3⟩ | v | v | v | v)
      · have := hgw.k v1 v2; rw [← v3] at this; omega
      · rw [v, b1] at ky; omega
      · exact al_dis z2.2 d1.2.2.1 ne kL d1.2.2.2.1.1 y u v
      · exact al_dis z2.2 d2.2.2.1 ne kL d2.2.2.2.1.1 y u v
      · exact al_dis z2.2 d3.2.2.1 ne kL d3.2.2.2.1.1 y u v
    exact ⟨gt.1.k z1.1 (by decide), by rw [gt.1.i kk0 nQ]; exact z1.2.2, by rw [gt.1.r kk0 nQ]; exact z4, L, c, by rw [gt.1.r kk0 nQ]; exact z2.1, z2.2.cg (gt.1.lg (by rw [kL]; decide)), z3.fr gt.1 (nL L (Or.inl rfl)) (fun y hy hk => nL y (Or.inr ⟨hy, hk⟩))⟩
  · have xe3 := (h1.2.2.1 e u1 u2).1
    obtain ⟨⟨t1, t2⟩, t3, t4, ks, t5, t6, t7⟩ := id xe3
    obtain ⟨p1, p2, -⟩ := (pw1 e u1 u2).2.kl (by omega)
    have eks : ks = kls S e := md_ch_uq ks _ _ (fun k hk => by have := t6 k hk; omega) (fun k hk => by have := ((pw_k_mem _ _ p2).2 k hk).2; omega) t5 p1
    obtain ⟨k, z1, z2, z3, z4⟩ := loc_k (P := Pp) (e := e) (pr_k S - k0) k0 (by rw [w7]; exact u1) (by rw [show k0 + (pr_k S - k0) = pr_k S by omega, w8]; exact u2)
    obtain ⟨bb, q1, q2⟩ := (hF k z1 (by omega)).1 e z3 z4
    have kX2 := g1.k u1 u2
    have ne2 : ¬ X e = qn q := fun w => by rw [w, kt2] at kX2; omega
    have ei : hp_i G3 (X e) = hp_i G2 (X e) := h2.1.i (by omega) ne2
    obtain ⟨y1, y2⟩ := g2.2.2.2.1 e u1 u2
    refine ⟨t1, t4, fun u => ?_, ⟨bb, by rw [(gt.2.1 e u1 u2).1]; exact q1, bcf _ _ q2⟩, fun u => by rw [ei]; exact y1 u, fun u => by rw [ei]; exact y2 u⟩
    obtain ⟨-, L, c, v1, v2, v3⟩ := t7 u
    rw [eks] at v3
    exact ⟨L, c, v1, v2, v3⟩
  · obtain ⟨nm, z1, z2⟩ := hnm
    exact ⟨nm, by rw [gt.2.2.1]; exact z1, x.2.2 _ _ z2⟩
end
