/-! THE COMPONENT's PARSER: an Equation under way, Equations that are whole -/
set_option maxRecDepth 100000
section
variable {q : PZ} {S S' S0 : MS} {X X' X0 : Nat → Nat} {G G' G0 G00 : GH} {lo : Nat} {own : Nat → Prop} {x l m c L : Nat} {pl : Int32}
/-- lists of different owners -/
theorem al_dis {L' x' : Nat} (h : ow G L x) (h' : ow G L' x') (hx : x ≠ x') (kL : hp_kd G L = 22) (kL' : hp_kd G L' = 22) : ∀ y, al_o G L y → ¬ al_o G L' y := by
  have hne : L ≠ L' := fun u => hx (by rw [u] at h; exact h.uq h')
  rintro y (u | ⟨u1, u2⟩) (v | ⟨v1, v2⟩)
  · exact hne (u.symm.trans v)
  · rw [u, kL] at v2; cases v2
  · rw [v, kL'] at u2; cases u2
  · exact hne (u1.uq v1)
/-- the Equation x at the place pl, with the left sides from the number l on, m of them, in the list L -/
def eqf (q : PZ) (S : MS) (G : GH) (x : Nat) (pl : Int32) (l m c L : Nat) : Prop :=
  (hp_kd G x = 7 ∧ hp_A q.1.1 x ∧ hp_i G x 2 = pl) ∧ (hp_r G x 0 = some L ∧ ow G L x) ∧ al q.1.1 G L m c (fun i => some (qV q (pr_a S + jg_v S (l + i))))
theorem eqf.fc (h : eqf q S G x pl l m c L) (hf : cf own G G') (h1 : ¬ own x) (h2 : ∀ y, al_o G L y → ¬ own y) : eqf q S G' x pl l m c L ∧ hp_r G' x = hp_r G x := by
  obtain ⟨⟨a1, a2, a3⟩, ⟨a4, a5⟩, a6⟩ := h
  have kx : hp_kd G x ≠ 0 := by rw [a1]; decide
  have kL := a6.1.1
  exact ⟨⟨⟨hf.k a1 (by decide), a2, by rw [hf.i kx h1]; exact a3⟩, ⟨by rw [hf.r kx h1]; exact a4, a5.cg (hf.lg (by rw [kL]; decide))⟩, a6.fr hf (h2 L (Or.inl rfl)) (fun y hy hk => h2 y (Or.inr ⟨hy, hk⟩))⟩, hf.r kx h1⟩
theorem eqf.rx (h : eqf q S G x pl l m c L) (hf : rx q.1 own G G') (hR : hp_kd G q.1.2.1 = 12) (hB : hp_kd G q.1.2.2.2.1 = 3) (h1 : ¬ own x) (h2 : ∀ y, al_o G L y → ¬ own y) : eqf q S G' x pl l m c L ∧ hp_r G' x = hp_r G x := by
  have kx := h.1.1
  have kL := h.2.2.1.1
  refine h.fc hf.1 ?_ (fun y hy => ?_)
  · rintro (u | u | u | u)
    · exact h1 u
    · rw [u, hR] at kx; cases kx
    · rw [u, hB] at kx; cases kx
    · rw [kx] at u; cases u
  · have ky : hp_kd G y = 22 ∨ hp_kd G y = 32 := hy.elim (fun u => by rw [u]; exact Or.inl kL) (fun u => Or.inr u.2)
    rintro (u | u | u | u)
    · exact h2 y hy u
    · rw [u, hR] at ky; omega
    · rw [u, hB] at ky; omega
    · omega
theorem eqf.cgS (h : eqf q S G x pl l m c L) (ea : pr_a S' = pr_a S) (e28 : ∀ j, l ≤ j → j < l + m → S'.2 28 j = S.2 28 j) : eqf q S' G x pl l m c L :=
  ⟨h.1, h.2.1, h.2.2.cg (fun i hi => by
    show some (qV q (pr_a S' + jg_v S' (l + i))) = some (qV q (pr_a S + jg_v S (l + i)))
    unfold jg_v
    rw [ea, e28 _ (by omega) (by omega)])⟩
/-- under way, made since G0 -/
def eqp (q : PZ) (S : MS) (G0 G : GH) (x : Nat) (pl : Int32) (l m c L : Nat) : Prop := eqf q S G x pl l m c L ∧ hp_kd G0 x = 0 ∧ hp_kd G0 L = 0 ∧ ∀ o, hp_r G L 0 = some o → c = 0 ∨ hp_kd G0 o = 0
theorem eqp.rx (h : eqp q S G0 G x pl l m c L) (hf : rx q.1 no9 G G') (hR : hp_kd G q.1.2.1 = 12) (hB : hp_kd G q.1.2.2.2.1 = 3) : eqp q S G0 G' x pl l m c L ∧ hp_r G' x = hp_r G x := by
  obtain ⟨h1, h2, h3, h4⟩ := h
  obtain ⟨g1, g2⟩ := h1.rx hf hR hB (fun u => u) (fun _ _ u => u)
  have kL := h1.2.2.1.1
  obtain ⟨-, e2, -⟩ := hf.old hR hB (x := L) (by rw [kL]; decide) (fun u => u) (by rw [kL]; decide)
  exact ⟨⟨g1, h2, h3, by rw [e2]; exact h4⟩, g2⟩
theorem eqp.cgS (h : eqp q S G0 G x pl l m c L) (ea : pr_a S' = pr_a S) (e28 : ∀ j, l ≤ j → j < l + m → S'.2 28 j = S.2 28 j) : eqp q S' G0 G x pl l m c L := ⟨h.1.cgS ea e28, h.2⟩
theorem eqp_new {c0 : Nat} {G2 : GH} (h : pst q lo c0 S X G) (hx : hp_kd G x = 0) (hA : hp_A q.1.1 x) (hP : ∃ L, hp_kd (hp_nw G x 7 0) L = 0 ∧ (al q.1.1 G2 L 0 0 (fun _ => none) ∧ ow G2 L x) ∧ cf (fun y => y = x) (hp_nw G x 7 0) G2 ∧ hp_r G2 x 0 = some L ∧ (∀ j, j ≠ 0 → hp_r G2 x j = hp_r (hp_nw G x 7 0) x j) ∧ hp_i G2 x = hp_i (hp_nw G x 7 0) x) :
    ∃ L, pst q lo c0 S X (hp_sI G2 x 2 pl) ∧ eqp q S G (hp_sI G2 x 2 pl) x pl l 0 0 L ∧ rx q.1 no9 G (hp_sI G2 x 2 pl) ∧ rkk q.1 G (hp_sI G2 x 2 pl) := by
  obtain ⟨L, l1, ⟨l2, l3⟩, l4, l5, -, -⟩ := hP
  have hLx : L ≠ x := fun u => by rw [u, hp_kd_nw, if_pos rfl] at l1; cases l1
  have l0 : hp_kd G L = 0 := by rw [hp_kd_nw, if_neg hLx] at l1; exact l1
  have f1 : cf (fun _ => False) G (hp_nw G x 7 0) := cf.rf.nw hx
  have f2 : cf (fun _ => False) G G2 := f1.tr2 l4 (fun y hy u => absurd hx (by rw [← u]; exact hy))
  have kx2 : hp_kd G2 x = 7 := l4.k (by rw [hp_kd_nw, if_pos rfl]) (by decide)
  have f3 : cf (fun _ => False) G (hp_sI G2 x 2 pl) := f2.sI (Or.inr hx)
  have hrx := rx_of (z := q.1) f3 (fun a u => u.elim)
  refine ⟨L, h.wr f3 (fun y u => u.elim) (fun _ _ _ _ _ u => u), ⟨⟨⟨kx2, hA, by rw [hp_i_sI, if_pos rfl, if_pos rfl]⟩, ⟨l5, l3⟩, ?_⟩, hx, l0, fun _ _ => Or.inl rfl⟩, ⟨hrx.1.mono (fun a _ u => u.imp (fun v => v.elim) id), hrx.2⟩, fun k _ => by rw [f3.r (by rw [h.1.1.1.1]; decide) (fun u => u)]⟩
  exact (l2.fr (cf.rf.sI (own := fun y => y = x) (Or.inl rfl)) hLx (fun y _ hy u => by rw [u, kx2] at hy; cases hy)).cg (fun i hi => absurd hi (Nat.not_lt_zero i))
theorem pl_S_q {k x : Nat} (h : k ≠ 23 ∧ k ≠ 28) : (pl_S S x).2 k = S.2 k := by
  funext j
  unfold pl_S
  rw [ml_sa_a, if_neg h.2, ml_sa_a, if_neg h.1]
  rfl
/-- a left side more -/
theorem eqp_add {c0 v d : Nat} (h : pst q lo c0 S X G) (he : eqp q S G0 G x pl l m c L) (hl : l + m = pr_l S) (hv : pr_a S ≤ v ∧ v < pr_v S) (hv2 : v < 2 ^ 20) (hm : m < 2 ^ 20) (f0 : rx q.1 no9 G0 G) (k0 : rkk q.1 G0 G) (hd : 6 ≤ d) :
    wk_C q.1.1 mJ5_add d (al_b m c) [vR (some L), vR (some (qV q v))] G (fun w G' => w = some (vI 1) ∧ pst q lo c0 (pl_S S (v - pr_a S)) X G' ∧ eqp q (pl_S S (v - pr_a S)) G0 G' x pl l (m + 1) (al_c m c) L ∧ hp_r G' x = hp_r G x ∧ rx q.1 no9 G0 G' ∧ rkk q.1 G0 G') (fun _ _ _ => False) := by
  obtain ⟨⟨⟨a1, a2, a3⟩, ⟨a4, a5⟩, a6⟩, b1, b2, b3⟩ := he
  have kL := a6.1.1
  have hE := h.2.1.1.2.1
  have kR := h.1.1.1.1
  have kv := (h.2.1.2.2.2.2.2 v hv.1 hv.2).1.1
  refine (J5_add_C (x := some (qV q v)) a6 hE (fun y hy => by rw [← Option.some.inj hy, kv]; decide) hm hd).mono ?_ (fun _ _ _ u => u)
  rintro w G' ⟨rfl, c1, c2, c3⟩
  have hw0 : ∀ y, al_w G L m c y → hp_kd G0 y = 0 := by
    rintro y (u | ⟨u1, u2, u3, u4⟩)
    · rw [u]; exact b2
    · exact (b3 y u2).resolve_left (by omega)
  have hwk : ∀ y, al_w G L m c y → hp_kd G y = 22 ∨ hp_kd G y = 32 := by
    rintro y (u | ⟨u1, u2, u3, u4⟩)
    · rw [u]; exact Or.inl kL
    · exact Or.inr u4
  have hrx := rx_of (z := q.1) c2 (fun a u => by have := hwk a u; constructor <;> omega)
  have nx : ¬ al_w G L m c x := fun u => by have := hwk x u; omega
  have nR : ¬ al_w G L m c q.1.2.1 := fun u => by have := hwk _ u; omega
  have kx0 : hp_kd G x ≠ 0 := by rw [a1]; decide
  have hps : pst q lo c0 S X G' := by
    refine h.wr c2 (fun y u => by have := hwk y u; unfold ok9; omega) (fun e e1 e2 y hy u => ?_)
    have ke := (h.2.2.1 e e1 e2).1.1.1
    have kr := xk_r (S.2 32 e)
    have hne : X e ≠ x := fun w => by rw [w] at ke; omega
    rcases hy with r | ⟨r1, r2⟩ | ⟨L', ⟨r1, r2⟩, r3, r4⟩
    · have := hwk y u; rw [r] at this; omega
    · rcases u with u | ⟨-, -, -, u⟩
      · rw [u] at r1; exact hne (r1.uq a5)
      · omega
    · rcases u with u | ⟨-, -, u, -⟩
      · rw [u] at r4; omega
      · have e9 := r3.uq u
        rw [e9] at r1
        exact hne (r1.uq a5)
  have sb := pl_S_same (S := S) (x := v - pr_a S)
  refine ⟨rfl, hps.cgE sb.E rfl (fun k hk => pl_S_q (by omega)), ⟨⟨⟨c2.k a1 (by decide), a2, by rw [c2.i kx0 nx]; exact a3⟩, ⟨by rw [c2.r kx0 nx]; exact a4, a5.cg (c2.lg (by rw [kL]; decide))⟩, ?_⟩, b1, b2, fun o ho => ?_⟩, c2.r kx0 nx, f0.tr hrx (fun y hy u => absurd (hw0 y u) hy), fun k hk => by rw [c2.r (by rw [kR]; decide) nR]; exact k0 k hk⟩
  · refine c1.cg (fun i hi => ?_)
    show some (qV q (pr_a (pl_S S (v - pr_a S)) + jg_v (pl_S S (v - pr_a S)) (l + i))) = if i = m then some (qV q v) else some (qV q (pr_a S + jg_v S (l + i)))
    unfold jg_v
    rw [sb.a]
    by_cases u : i = m
    · rw [if_pos u, u, hl, pl_S_28, nI_clamp (by omega), show pr_a S + (v - pr_a S) = v by omega]
    · rw [if_neg u, (pl_S_old (S := S) (x := v - pr_a S) (k := 0) (p := 0)).2.2.1 (l + i) (by omega)]
  · rcases c3 o ho with ⟨u1, u2⟩ | u
    · rcases b3 o u2 with w | w
      · omega
      · exact Or.inr w
    · exact Or.inr (f0.1.fresh u)
/-- the whole Equation of the number k -/
def eqx (q : PZ) (S : MS) (X : Nat → Nat) (G : GH) (x k : Nat) : Prop := (∃ L c, eqf q S G x (S.2 25 k) (jg_n (S.2 26 k)) (jg_n (S.2 26 (k + 1)) - jg_n (S.2 26 k)) c L) ∧ hp_r G x 1 = some (X (jg_n (S.2 27 k)))
/-- the equations of the node that is read, from the number k0 on; their list -/
def eqL (q : PZ) (Q : Nat → Nat) (k0 : Nat) (S : MS) (X : Nat → Nat) (G00 G : GH) (Le ce : Nat) : Prop := (hp_r G (qn q) 3 = some Le ∧ hp_kd G00 Le = 0 ∧ ow G Le (qn q) ∧ al q.1.1 G Le (pr_k S - k0) ce (fun i => some (Q (k0 + i)))) ∧ ∀ k, k0 ≤ k → k < pr_k S → eqx q S X G (Q k) k
theorem eqx.rx {k : Nat} (h : eqx q S X G x k) (hf : rx q.1 own G G') (hR : hp_kd G q.1.2.1 = 12) (hB : hp_kd G q.1.2.2.2.1 = 3) (ho : ∀ y, own y → hp_kd G y ≠ 7 ∧ ∀ L, ow G L x → hp_kd G L = 22 → ¬ al_o G L y) : eqx q S X G' x k := by
  obtain ⟨⟨L, c, h1⟩, h2⟩ := h
  obtain ⟨g1, g2⟩ := h1.rx hf hR hB (fun u => (ho _ u).1 h1.1.1) (fun y hy u => (ho _ u).2 L h1.2.1.2 h1.2.2.1.1 hy)
  exact ⟨⟨L, c, g1⟩, by rw [g2]; exact h2⟩
theorem eqx.cgS {k : Nat} (h : eqx q S X G x k) (ea : pr_a S' = pr_a S) (e25 : S'.2 25 k = S.2 25 k) (e26 : S'.2 26 k = S.2 26 k ∧ S'.2 26 (k + 1) = S.2 26 (k + 1)) (e27 : S'.2 27 k = S.2 27 k) (eX : X' (jg_n (S.2 27 k)) = X (jg_n (S.2 27 k))) (e28 : ∀ j, j < jg_n (S.2 26 (k + 1)) → S'.2 28 j = S.2 28 j) : eqx q S' X' G x k := by
  obtain ⟨⟨L, c, h1⟩, h2⟩ := h
  refine ⟨⟨L, c, ?_⟩, by rw [e27, eX]; exact h2⟩
  rw [e25, e26.1, e26.2]
  exact h1.cgS ea (fun j a b => e28 j (by omega))
end
