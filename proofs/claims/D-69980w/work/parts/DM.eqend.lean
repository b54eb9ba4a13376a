/-! THE COMPONENT's PARSER: an equation's end -/
set_option maxRecDepth 100000
section
variable {q : PZ} {S S' S0 S3 : MS} {X X' X0 X3 : Nat → Nat} {G G' G0 G00 G3 : GH} {lo : Nat} {own : Nat → Prop} {x l m c L : Nat} {pl : Int32}
theorem eqp.cgpl {pl2 : Int32} (h : eqp q S G0 G x pl l m c L) (e : pl = pl2) : eqp q S G0 G x pl2 l m c L := by subst e; exact h
theorem kd_x7 {y : Nat} (hy : hp_kd G y = 7) (h : pst q lo c S X G) : ∀ e, lo ≤ e → e < pr_p S → ∀ z, xc G (X e) z → ¬ z = y := by
  intro e e1 e2 z hz u
  have ke := (h.2.2.1 e e1 e2).1.1.1
  have kr := xk_r (S.2 32 e)
  rcases hz with r | ⟨-, r⟩ | ⟨-, -, -, r⟩
  · rw [← r, u, hy] at ke; omega
  · rw [u, hy] at r; cases r
  · rw [u, hy] at r; cases r
/-- the right side is noted -/
theorem eqp_r1 {c0 : Nat} {v : Option Nat} (h : pst q lo c0 S X G) (he : eqp q S G0 G x pl l m c L) (f0 : rx q.1 no9 G0 G) (k0 : rkk q.1 G0 G) : pst q lo c0 S X (hp_sR G x 1 v) ∧ eqp q S G0 (hp_sR G x 1 v) x pl l m c L ∧ rx q.1 no9 G0 (hp_sR G x 1 v) ∧ rkk q.1 G0 (hp_sR G x 1 v) ∧ hp_r (hp_sR G x 1 v) x 1 = v := by
  obtain ⟨⟨⟨a1, a2, a3⟩, ⟨a4, a5⟩, a6⟩, b1, b2, b3⟩ := he
  have kR := h.1.1.1.1
  have kL := a6.1.1
  have f : cf (fun y => y = x) G (hp_sR G x 1 v) := cf.rf.sR (Or.inl rfl)
  have nL : ¬ L = x := fun u => by rw [u, a1] at kL; cases kL
  have nR : ¬ q.1.2.1 = x := fun u => by rw [← u, kR] at a1; cases a1
  have hrx := rx_of (z := q.1) f (fun a u => by rw [u, a1]; exact ⟨by decide, by decide⟩)
  refine ⟨h.wr f (fun y u => by rw [u, a1]; exact Or.inr (Or.inr rfl)) (fun e e1 e2 y hy u => kd_x7 a1 h e e1 e2 y hy u), ⟨⟨⟨a1, a2, a3⟩, ⟨by rw [hp_r_sR, if_pos rfl, if_neg (by decide)]; exact a4, a5⟩, a6.fr f nL (fun y _ hy u => by rw [u, a1] at hy; cases hy)⟩, b1, b2, ?_⟩, f0.tr hrx (fun y hy u => absurd b1 (by rw [← u]; exact hy)), fun k hk => by rw [f.r (by rw [kR]; decide) nR]; exact k0 k hk, by rw [hp_r_sR, if_pos rfl, if_pos rfl]⟩
  rw [f.r (by rw [kL]; decide) nL]
  exact b3
/-- what an equation leaves -/
def eqP (q : PZ) (Q : Nat → Nat) (k0 lo c : Nat) (S : MS) (X : Nat → Nat) (G00 G : GH) (Le ce : Nat) (r : PE) (v : Option WV) (G' : GH) : Prop :=
  v = none ∧ ∃ c' S' X' mv x, r = .inr (0, c', S') ∧ pst (qU q (pr_p S' - 1) mv) lo c' S' X' G' ∧ ((∀ j, j < pr_p S → X' j = X j) ∧ ∀ j, pr_p S ≤ j → j < pr_p S' → hp_kd G (X' j) = 0) ∧ eqL q (hp_u1 Q (pr_k S) x) k0 S' X' G00 G' Le (al_c (pr_k S - k0) ce) ∧ (mv = if lx_kind (rz_T q.1) (rz_n q.1) c = 40 then some (x, pr_l S' - pr_l S) else none) ∧ (rx q.1 (al_o G Le) G G' ∧ rkk q.1 G G') ∧ cb (20 * (c' - c) + al_b (pr_k S - k0) ce) G G'
theorem X3_eq_end {D c c3 k0 Le ce m cap L x e r2 : Nat} {Q : Nat → Nat} {mv : Option (Nat × Nat)} {r : PE} (hp : pst q lo c S X G) (h : pst (qU q e mv) lo c3 S3 X3 G3) (he : eqp q S3 G G3 x (nI c) (pr_l S) m cap L) (hx1 : hp_r G3 x 1 = some (X3 e)) (hM : pe_M1 (rz_n q.1) (pe_0 S (pr_k S) c) (pr_k S) c3 S3) (h27 : S3.2 27 (pr_k S) = nI e) (hpe : pr_p S3 = e + 1) (hl : pr_l S3 = pr_l S + m) (hX : ∀ j, j < pr_p S → X3 j = X j) (hXf : ∀ j, pr_p S ≤ j → j < pr_p S3 → hp_kd G (X3 j) = 0) (hmv : mv = if lx_kind (rz_T q.1) (rz_n q.1) c = 40 then some (x, m) else none) (fx : rx q.1 no9 G G3) (kx : rkk q.1 G G3) (f00 : rx q.1 no9 G00 G) (k00 : rkk q.1 G00 G)
    (hE : pn_E (rz_n q.1) c S) (hB : S.2 26 (pr_k S) = nI (pr_l S)) (hk0 : k0 ≤ pr_k S) (hW : ∀ k, k0 ≤ k → k < pr_k S → jg_n (S.2 27 k) < pr_p S ∧ jg_n (S.2 26 (k + 1)) ≤ pr_l S) (hL : eqL q Q k0 S X G00 G Le ce) (hcc : c + 1 ≤ c3) (hr : pe_end (rz_T q.1) (rz_n q.1) (pr_k S) c3 S3 = some r) (hD : 10 ≤ D) (hr2 : 20 * (rz_n q.1 - c3) + 20 + al_b (pr_k S - k0) ce ≤ r2) :
    wk_V q.1.1 mX3_equation (D, 20 * (rz_n q.1 - c) + 30 + al_b (pr_k S - k0) ce, eqP q Q k0 lo c S X G00 G Le ce r, xq_X q G00 r, hp_cs G, hp_ss G) 189 [(0, vR (some q.1.2.1)), (1, vR (some x))] [] G3 r2 := by
  obtain ⟨hV, g1, g2, g3, g4, g5, g6, g7, g8, g9, g10⟩ := id hE
  have hR := hp.1.1.1.1
  have hBd := hp.1.1.2.1.1
  have kR3 : hp_kd G3 q.1.2.1 = 12 := h.1.1.1.1
  have f03 : rx q.1 no9 G00 G3 := f00.tr fx (fun _ _ u => u)
  have k03 : rkk q.1 G00 G3 := fun k hk => (kx k hk).trans (k00 k hk)
  have pn03 : pin q S3 X3 G00 S3 X3 G3 := pin.of f03 k03
  refine wk_less hr2 ?_
  unfold pe_end at hr
  refine blX3_equation_189 kR3 (X3_need_C (k := 59) (d := 9) h.1 (by decide) (Nat.le_refl 9)) (by show 9 + 1 ≤ D; omega) (by omega) ?_ (fun E a G' u => wk_out0 rfl (u.2.X pn03 (by rw [← hr, if_neg u.1])))
  rintro v G4 ⟨rfl, hq2, t3, t4⟩
  have hq2 : lx_kind (rz_T q.1) (rz_n q.1) c3 = 59 := hq2
  rw [if_pos hq2] at hr
  obtain ⟨tk1, tk2⟩ := lx_tk (T := rz_T q.1) (n := rz_n q.1) (c := c3) (by rw [hq2]; decide)
  obtain ⟨hp4, pn4⟩ := h.scan t3 t4
  have kR4 : hp_kd G4 q.1.2.1 = 12 := hp4.1.1.1.1
  have kB4 : hp_kd G4 q.1.2.2.2.1 = 3 := hp4.1.1.2.1.1
  have rx4 : rx q.1 no9 G3 G4 := pn4.2.2.2.2.1
  have rk4 : rkk q.1 G3 G4 := pn4.2.2.2.2.2
  obtain ⟨he4, hr4⟩ := he.rx rx4 kR3 h.1.1.2.1.1
  have f4 : rx q.1 no9 G G4 := fx.tr rx4 (fun _ _ u => u)
  have k4 : rkk q.1 G G4 := fun k hk => (rk4 k hk).trans (kx k hk)
  obtain ⟨⟨l1, l2, l3, l4⟩, l5⟩ := id hL
  have kLe := l4.1.1
  have kn := hp.2.1.2.1.1
  have old_n := f4.old hR hBd (x := qn q) (by rw [kn]; decide) (fun u => u) (by rw [kn]; decide)
  have old_L := f4.old hR hBd (x := Le) (by rw [kLe]; decide) (fun u => u) (by rw [kLe]; decide)
  have l3' : ow G4 Le (qn q) := l3.cg old_L.2.2
  have l4' : al q.1.1 G4 Le (pr_k S - k0) ce (fun i => some (Q (k0 + i))) := by
    refine l4.fr f4.1 ?_ (fun y _ hy => ?_)
    · rintro (u | u | u | u)
      · exact u
      · rw [u, hR] at kLe; cases kLe
      · rw [u, hBd] at kLe; cases kLe
      · rw [u] at kLe; cases kLe
    · rintro (u | u | u | u)
      · exact u
      · rw [u, hR] at hy; cases hy
      · rw [u, hBd] at hy; cases hy
      · rw [u] at hy; cases hy
  have kx4 : hp_kd G4 x = 7 := he4.1.1.1
  have kn4 : hp_kd G4 (qn q) = 8 := hp4.2.1.2.1.1
  refine blX3_equation_196 kR4 hp4.2.1.2.1.2.2 kn4 (by show hp_r G4 (qn q) 3 = some Le; rw [old_n.2.1]; exact l1) l4'.1.1 (J5_add_C (d := 6) (x := some x) l4' hp4.2.1.1.2.1 (fun y hy => by rw [← Option.some.inj hy, kx4]; decide) (by omega) (Nat.le_refl 6)) (by show 6 + 1 ≤ D; omega) (by omega) ?_ (fun _ _ _ u => absurd u id)
  rintro v G5 ⟨rfl, a1, a2, a3⟩
  have hw : ∀ y, al_w G4 Le (pr_k S - k0) ce y → al_o G4 Le y := by
    rintro y (u | ⟨-, -, u3, u4⟩)
    · exact Or.inl u
    · exact Or.inr ⟨u3, u4⟩
  have kL4 := l4'.1.1
  have hko : ∀ y, al_o G4 Le y → hp_kd G4 y = 22 ∨ hp_kd G4 y = 32 := by
    rintro y (u | u)
    · rw [u]; exact Or.inl kL4
    · exact Or.inr u.2
  have a2' : cf (al_o G4 Le) G4 G5 := a2.mono (fun y _ u => hw y u)
  have rx5 : rx q.1 (al_o G4 Le) G4 G5 := rx_of a2' (fun y u => by have := hko y u; constructor <;> omega)
  have nR : ¬ al_o G4 Le q.1.2.1 := fun u => by have := hko _ u; omega
  have nn : ¬ al_o G4 Le (qn q) := fun u => by have := hko _ u; omega
  have hps : pst (qU q e mv) lo (lx_next (rz_T q.1) (rz_n q.1) c3) S3 X3 G5 := by
    refine hp4.wr a2' (fun y u => by have := hko y u; unfold ok9; omega) (fun e' e1 e2 y hy u => ?_)
    have ke := (hp4.2.2.1 e' e1 e2).1.1.1
    have kr := xk_r (S3.2 32 e')
    have hne : X3 e' ≠ qn q := fun w => by rw [w, kn4] at ke; omega
    rcases hy with r | ⟨r1, r2⟩ | ⟨L', ⟨r1, r2⟩, r3, r4⟩
    · have := hko y u; rw [r] at this; omega
    · rcases u with u | ⟨-, u⟩
      · rw [u] at r1; exact hne (r1.uq l3')
      · omega
    · rcases u with u | ⟨u, -⟩
      · rw [u] at r4; omega
      · have e9 := r3.uq u
        rw [e9] at r1
        exact hne (r1.uq l3')
  have sb : pq_same S3 (ml_sa (ml_sf S3 30 (nI (pr_k S + 1))) 26 (pr_k S + 1) (S3.1 31)) := ⟨fun k a _ _ => by show (if k = 30 then _ else S3.1 k) = _; rw [if_neg a], fun k _ _ _ a _ => by funext j; rw [ml_sa_a, if_neg (by omega)]; rfl⟩
  have hps' := hps.cgE sb.E rfl (fun k hk => by funext j; rw [ml_sa_a, if_neg (by omega)]; rfl)
  obtain ⟨m1, m2, m3, m4, m5, m6, m7, m8, m9, m10⟩ := hM
  have m3' : pr_k S3 = pr_k S := m3
  have h31 : S3.1 31 = nI (pr_l S + m) := by rw [m1.2.2.2.2.2.2.2.1, hl]
  have hlm : pr_l S + m ≤ 5000 := by have := m1.2.2.2.2.2.2.2.2.1; have := m1.2.1; omega
  have hkb : pr_k S + 1 ≤ 5001 := by omega
  -- the state's arrays
  have s26 : ∀ j, (ml_sa (ml_sf S3 30 (nI (pr_k S + 1))) 26 (pr_k S + 1) (S3.1 31)).2 26 j = if j = pr_k S + 1 then S3.1 31 else S3.2 26 j := fun j => by rw [ml_sa_a, if_pos rfl]; rfl
  have sne : ∀ k j, k ≠ 26 → (ml_sa (ml_sf S3 30 (nI (pr_k S + 1))) 26 (pr_k S + 1) (S3.1 31)).2 k j = S3.2 k j := fun k j hk => by rw [ml_sa_a, if_neg hk]; rfl
  have p25 : ∀ j, (pe_0 S (pr_k S) c).2 25 j = if j = pr_k S then nI c else S.2 25 j := fun j => by
    show (ml_sa (ml_sa (ml_sa S 25 (pr_k S) (nI c)) 26 (pr_k S) (S.1 31)) 29 (pr_k S) (S.1 40)).2 25 j = _
    rw [ml_sa_a, if_neg (by decide), ml_sa_a, if_neg (by decide), ml_sa_a, if_pos rfl]
  have p26 : ∀ j, (pe_0 S (pr_k S) c).2 26 j = S.2 26 j := fun j => by
    show (ml_sa (ml_sa (ml_sa S 25 (pr_k S) (nI c)) 26 (pr_k S) (S.1 31)) 29 (pr_k S) (S.1 40)).2 26 j = _
    rw [ml_sa_a, if_neg (by decide), ml_sa_a, if_pos rfl]
    by_cases u : j = pr_k S
    · rw [if_pos u, u, hB]; exact g7
    · rw [if_neg u]; show (ml_sa S 25 (pr_k S) (nI c)).2 26 j = _; rw [ml_sa_a, if_neg (by decide)]
  have pne : ∀ k j, k = 27 ∨ k = 28 → (pe_0 S (pr_k S) c).2 k j = S.2 k j := fun k j hk => by
    show (ml_sa (ml_sa (ml_sa S 25 (pr_k S) (nI c)) 26 (pr_k S) (S.1 31)) 29 (pr_k S) (S.1 40)).2 k j = _
    rw [ml_sa_a, if_neg (by omega), ml_sa_a, if_neg (by omega), ml_sa_a, if_neg (by omega)]
  have ea : pr_a (ml_sa (ml_sf S3 30 (nI (pr_k S + 1))) 26 (pr_k S + 1) (S3.1 31)) = pr_a S3 := sb.a
  have ea0 : pr_a S3 = pr_a S := (pe_0_same.tr m2).a
  have ek : pr_k (ml_sa (ml_sf S3 30 (nI (pr_k S + 1))) 26 (pr_k S + 1) (S3.1 31)) = pr_k S + 1 := by
    show (nI (pr_k S + 1)).toNatClampNeg = _
    rw [nI_clamp (by omega)]
  have el : pr_l (ml_sa (ml_sf S3 30 (nI (pr_k S + 1))) 26 (pr_k S + 1) (S3.1 31)) = pr_l S3 := rfl
  have ep : pr_p (ml_sa (ml_sf S3 30 (nI (pr_k S + 1))) 26 (pr_k S + 1) (S3.1 31)) = pr_p S3 := rfl
  have hxn : x ≠ qn q := fun u => by rw [u, kn4] at kx4; cases kx4
  refine wk_cb (by omega) fun hcb => blX3_equation_207 ⟨rfl, _, _, X3, mv, x, (Option.some.inj hr).symm, ?_, ⟨hX, hXf⟩, ⟨⟨?_, l2, ?_, ?_⟩, fun k h1 h2 => ?_⟩, ?_, ⟨?_, fun k hk => ?_⟩, hcb.mono (by omega)⟩
  · rw [ep, hpe]; exact hps'
  · rw [a2'.r (by rw [kn4]; decide) nn, old_n.2.1]; exact l1
  · exact l3'.cg (a2.lg (by rw [kL4]; decide))
  · rw [ek, show pr_k S + 1 - k0 = pr_k S - k0 + 1 by omega]
    refine a1.cg (fun i hi => ?_)
    show some (hp_u1 Q (pr_k S) x (k0 + i)) = if i = pr_k S - k0 then some x else some (Q (k0 + i))
    unfold hp_u1
    by_cases u : i = pr_k S - k0
    · rw [if_pos (by omega), if_pos u]
    · rw [if_neg (by omega), if_neg u]
  · rw [ek] at h2
    by_cases u : k = pr_k S
    · subst u
      have eQ : hp_u1 Q (pr_k S) x (pr_k S) = x := by unfold hp_u1; rw [if_pos rfl]
      rw [eQ]
      obtain ⟨g5, g6⟩ := he4.1.rx rx5 kR4 kB4 (fun u => by have := hko _ u; omega) (al_dis he4.1.2.1.2 l3' hxn he4.1.2.2.1.1 kL4)
      have e27 : (ml_sa (ml_sf S3 30 (nI (pr_k S + 1))) 26 (pr_k S + 1) (S3.1 31)).2 27 (pr_k S) = nI e := by rw [sne 27 _ (by decide)]; exact h27
      have e25 : (ml_sa (ml_sf S3 30 (nI (pr_k S + 1))) 26 (pr_k S + 1) (S3.1 31)).2 25 (pr_k S) = nI c := by rw [sne 25 _ (by decide), m7, p25, if_pos rfl]
      have e26 : (ml_sa (ml_sf S3 30 (nI (pr_k S + 1))) 26 (pr_k S + 1) (S3.1 31)).2 26 (pr_k S) = nI (pr_l S) := by rw [s26, if_neg (by omega), m6.2.1 _ (Nat.le_refl _), p26, hB]
      have e26' : (ml_sa (ml_sf S3 30 (nI (pr_k S + 1))) 26 (pr_k S + 1) (S3.1 31)).2 26 (pr_k S + 1) = nI (pr_l S + m) := by rw [s26, if_pos rfl, h31]
      have n1 : jg_n (nI (pr_l S)) = pr_l S := nI_clamp (by omega)
      have n2 : jg_n (nI (pr_l S + m)) = pr_l S + m := nI_clamp (by omega)
      have hpe2 : e ≤ 5000 := by have := m1.2.2.2.2.1; have := m1.2.1; omega
      have n3 : jg_n (nI e) = e := nI_clamp (by omega)
      refine ⟨⟨L, cap, ?_⟩, ?_⟩
      · rw [e25, e26, e26', n1, n2, show pr_l S + m - pr_l S = m by omega]
        exact g5.cgS ea (fun j _ _ => sne 28 j (by decide))
      · rw [e27, n3, g6, hr4]; exact hx1
    · have hkl : k < pr_k S := by omega
      have eQ : hp_u1 Q (pr_k S) x k = Q k := by unfold hp_u1; rw [if_neg u]
      rw [eQ]
      obtain ⟨w1, w2⟩ := hW k h1 hkl
      have o1 := l5 k h1 hkl
      have o2 := o1.rx f4 hR hBd (fun y u => u.elim)
      have kQ : hp_kd G4 (Q k) = 7 := by obtain ⟨⟨L', c', z⟩, -⟩ := o2; exact z.1.1
      have o3 := o2.rx rx5 kR4 kB4 (fun y u => ⟨by have := hko y u; omega, fun L' z1 z2 z3 => al_dis z1 l3' (fun w => by rw [w, kn4] at kQ; cases kQ) z2 kL4 y z3 u⟩)
      refine o3.cgS (ea.trans ea0) ?_ ⟨?_, ?_⟩ ?_ (hX _ w1) (fun j hj => ?_)
      · rw [sne 25 _ (by decide), m6.1 25 k (by decide) hkl, p25, if_neg (by omega)]
      · rw [s26, if_neg (by omega), m6.2.1 k (by omega), p26]
      · rw [s26, if_neg (by omega), m6.2.1 (k + 1) (by omega), p26]
      · rw [sne 27 _ (by decide), m6.1 27 k (by decide) hkl, pne 27 _ (Or.inl rfl)]
      · rw [sne 28 _ (by decide), m6.2.2.1 j (by show j < pr_l (pe_0 S (pr_k S) c); have : pr_l (pe_0 S (pr_k S) c) = pr_l S := rfl; omega), pne 28 _ (Or.inr rfl)]
  · rw [hmv, el, hl, show pr_l S + m - pr_l S = m by omega]
  · refine (f4.mono (own2 := al_o G Le) (fun _ _ u => u.elim)).tr rx5 (fun y hy u => ?_)
    rcases u with u | ⟨u1, u2⟩
    · exact Or.inl u
    · exact Or.inr ⟨u1.cg (f4.1.lg hy).symm, by rw [← f4.1.kd hy]; exact u2⟩
  · rw [a2'.r (by rw [kR4]; decide) nR]; exact k4 k hk
end
