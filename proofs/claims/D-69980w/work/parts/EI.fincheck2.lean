/-! THE COMPONENT's finish: the checks, the walk -/
set_option maxRecDepth 100000
theorem nd_jg_in {m k : Nat} {S : MS} {kd : Int32} (h : jg S k = .inl kd) : nd_jg (m + 1) k S = .inl (kd, (S.2 25 k).toNatClampNeg) := by rw [nd_jg, h]
theorem nd_jg_go {m k : Nat} {S S' : MS} (h : jg S k = .inr S') : nd_jg (m + 1) k S = nd_jg m (k + 1) S' := by rw [nd_jg, h]
section
variable {cq : Nat} {q : PZ} {X : Nat → Nat} {G00 : GH} {k0 Lv hv cv Le ce lo Lc Lm Lr : Nat} {Q : Nat → Nat} {Pp Lf : Nat → Nat} {I : Nat → Int32} {D B cs ss : Nat} {Pt : Option WV → GH → Prop} {r : PE} {nml : List Nat} {T : Nat → Int32} {n : Nat}
/-- what is known of the node's equations -/
def fcW (q : PZ) (T : Nat → Int32) (n : Nat) (Q Pp Lf : Nat → Nat) (k0 lo : Nat) (S : MS) : Prop := (pj_V n S ∧ S.2 0 = T ∧ n ≤ 5000 ∧ pr_p S ≤ 5000 ∧ pr_k S ≤ 5000 ∧ k0 ≤ pr_k S) ∧ (Pp k0 = lo ∧ Pp (pr_k S) = pr_p S) ∧ (∀ k, k0 ≤ k → k < pr_k S → ∃ c, pe_W T n S k c (Pp k) (Pp (k + 1)) (Lf k) (Lf (k + 1)) ∧ Lf (k + 1) ≤ 5000 ∧ Pp (k + 1) ≤ pr_p S ∧ lo ≤ Pp k) ∧ (∀ k, k0 ≤ k → k < pr_k S → (∀ e, Pp k ≤ e → e + 1 < Pp (k + 1) → qM q e = none) ∧ qM q (Pp (k + 1) - 1) = if lx_kind T n (jg_n (S.2 25 k)) = 40 then some (Q k, Lf (k + 1) - Lf k) else none)
theorem fcW.jst {S : MS} {k : Nat} {A C : Nat → Int32} (h : fcW q T n Q Pp Lf k0 lo S) : fcW q T n Q Pp Lf k0 lo (jg_st S k A C) := h
theorem jg_0 {S : MS} {k c p p' l l' : Nat} (hW : pe_W T n S k c p p' l l') (hp : p' < 2 ^ 31) (hl : l' < 2 ^ 31) : jg S k = jg0 S k p (p' - 1) l (l' - l) (decide (S.2 0 (jg_n (S.2 25 k)) = 40)) := by
  obtain ⟨w1, w2, w3, w4, w5, w6, w7, w8, w9, w10, w11, w12, w13⟩ := hW
  unfold jg
  rw [w3, w4, w6, w7]
  have e1 : jg_n (nI p) = p := nI_clamp (by omega)
  have e2 : jg_n (nI (p' - 1)) = p' - 1 := nI_clamp (by omega)
  have e3 : jg_n (nI l) = l := nI_clamp (by omega)
  have e4 : jg_n (nI l') = l' := nI_clamp (by omega)
  rw [e1, e2, e3, e4]
theorem X3_fin_3 {p A : Nat} (hD : 611 ≤ D) (hR0 : hp_kd G00 q.1.2.1 = 12) (hB0 : hp_kd G00 q.1.2.2.2.1 = 3) :
    ∀ m k S G F, fcW q T n Q Pp Lf k0 lo S → (∀ f, f < pr_N S → nh q S G00 f) → (∀ e, lo ≤ e → e < pr_p S → hp_kd G00 (X e) = 0) → k0 ≤ k → k + m = pr_k S → fnI (fnB q S X lo G00 Lc Lm Lr nml cq) q Q k0 Lf p S X G00 G Lv hv cv Le ce I → fcF q S X G F Pp Lf k0 k →
    (∀ kd pl, nd_jg m k S = .inl (kd, pl) → r = .inl (kd, pl)) →
    (∀ S' G' F', nd_jg m k S = .inr S' → fcW q T n Q Pp Lf k0 lo S' → (pr_N S' = pr_N S ∧ ∀ f, f < pr_N S → nh q S' G00 f) → fnI (fnB q S' X lo G00 Lc Lm Lr nml cq) q Q k0 Lf p S' X G00 G' Lv hv cv Le ce I → fcF q S' X G' F' Pp Lf k0 (pr_k S') → wk_V q.1.1 mX3_finish (D, B, Pt, xq_X q G00 r, cs, ss) 207 [(0, vR (some q.1.2.1))] [] G' A) →
    wk_V q.1.1 mX3_finish (D, B, Pt, xq_X q G00 r, cs, ss) 156 [(0, vR (some q.1.2.1)), (2, vI (nI (k - k0)))] [] G (pr_p S - Pp k + A) := by
  intro m
  induction m with
  | zero =>
    intro k S G F hW hnh hfr hk0 hk hI hF hx K
    obtain ⟨⟨⟨a0, a1⟩, a2⟩, ⟨b1, b2, b3⟩, ⟨⟨l1, l2, l3, l4⟩, l5⟩, -⟩ := id hI
    obtain ⟨⟨w1, w2, w3, w4, w5, w6⟩, ⟨w7, w8⟩, w9, w10⟩ := id hW
    have e : k = pr_k S := hk
    refine blX3_finish_156 a2.1.1 b3 b1 l1 l4.1.1 (J5_size_C (d := 0) l4) (by show 0 + 1 ≤ D; omega) (Nat.zero_le _) ?_ (fun _ _ _ u => absurd u id)
    rintro v G ⟨rfl, rfl⟩
    refine blX3_finish_167 (fun _ => ?_) (fun u => absurd ((nI_leI (by omega) (by omega)).2 (by omega)) u)
    refine wk_less (r' := A) (by show _ ≤ pr_p S - Pp k + A - 0; omega) ?_
    exact K S _ F rfl hW ⟨rfl, hnh⟩ hI (by rw [← e]; exact hF)
  | succ m ih =>
    intro k S G F hW hnh hfr hk0 hk hI hF hx K
    obtain ⟨⟨⟨a0, a1⟩, a2⟩, ⟨b1, b2, b3⟩, ⟨⟨l1, l2, l3, l4⟩, l5⟩, -⟩ := id hI
    obtain ⟨⟨w1, w2, w3, w4, w5, w6⟩, ⟨w7, w8⟩, w9, w10⟩ := id hW
    obtain ⟨c, hWk, hl5, hPp, hPl⟩ := w9 k hk0 (by omega)
    obtain ⟨m1, m2⟩ := w10 k hk0 (by omega)
    obtain ⟨v1, v2, v3, v4, v5, v6, v7, v8, v9, v10, v11, v12, v13⟩ := id hWk
    have kB := a2.2.1.1
    have hkn : k < pr_k S := by omega
    have jc25 : jg_n (S.2 25 k) = c := by rw [v1]; exact nI_clamp (by omega)
    have jl : jg_n (S.2 26 k) = Lf k := by rw [v6]; exact nI_clamp (by omega)
    have jl' : jg_n (S.2 26 (k + 1)) = Lf (k + 1) := by rw [v7]; exact nI_clamp (by omega)
    have jb : jg_n (S.2 27 k) = Pp (k + 1) - 1 := by rw [v4]; exact nI_clamp (by omega)
    refine blX3_finish_156 a2.1.1 b3 b1 l1 l4.1.1 (J5_size_C (d := 0) l4) (by show 0 + 1 ≤ D; omega) (Nat.zero_le _) ?_ (fun _ _ _ u => absurd u id)
    rintro v G ⟨rfl, rfl⟩
    refine blX3_finish_167 (fun u => absurd ((nI_leI (by omega) (by omega)).1 u) (by omega)) (fun _ => ?_)
    refine blX3_finish_170 a2.1.1 b3 b1 l1 l4.1.1 (J5_get_C (d := 2) (i := k - k0) l4 (by omega) (Nat.le_refl 2)) (by show 2 + 1 ≤ D; omega) (Nat.zero_le _) ?_ (fun _ _ _ u => absurd u id)
    rintro v G ⟨rfl, rfl⟩
    rw [show k0 + (k - k0) = k by omega]
    obtain ⟨⟨Lq, cq9, hq1, hq2, hq3⟩, hq4⟩ := l5 k hk0 hkn
    rw [jl, jl'] at hq3
    rw [jb] at hq4
    have kQ := hq1.1
    -- the Wrong's place
    have fb : cf (fun y => y = q.1.2.2.2.1) G (hp_sI G q.1.2.2.2.1 7 (hp_i G (Q k) 2)) := cf.rf.sI (Or.inl rfl)
    have fbk : ∀ y, y = q.1.2.2.2.1 → hp_kd G y = 3 ∨ hp_kd G y = 6 := fun y u => Or.inl (by rw [u]; exact kB)
    have hIb : fnI (fnB q S X lo G00 Lc Lm Lr nml cq) q Q k0 Lf p S X G00 (hp_sI G q.1.2.2.2.1 7 (hp_i G (Q k) 2)) Lv hv cv Le ce I := hI.fr fb (fun y u => Or.inr u) (fun y _ u => u) (fun w => w.fr fb b1 (fun y u => Or.inr (fbk y u)) (fun e _ _ w => w.el fb fbk))
    have hwb := hIb.tw hnh hR0 hB0
    have hFb : fcF q S X (hp_sI G q.1.2.2.2.1 7 (hp_i G (Q k) 2)) F Pp Lf k0 k := fun j j1 j2 => by
      obtain ⟨g1, g2⟩ := hF j j1 j2
      refine ⟨fun x x1 x2 => ?_, g2⟩
      obtain ⟨bb, u1, u2⟩ := g1 x x1 x2
      exact ⟨bb, u1, u2.fr fb (fun y u => by rw [u, kB]; decide)⟩
    have hb0 : Pp (k + 1) - 1 + 1 = Pp (k + 1) := by omega
    have hwk : tw q (Pp k) (Pp (k + 1) - 1 + 1) S X (hp_sI G q.1.2.2.2.1 7 (hp_i G (Q k) 2)) := hwb.sub hPl (by omega)
    have hQb : cqx q S X (hp_sI G q.1.2.2.2.1 7 (hp_i G (Q k) 2)) (Q k) (Pp (k + 1) - 1) (Lf k) (Lf (k + 1) - Lf k) := ⟨kQ, hq4, Lq, cq9, hq2.1, hq3.fr fb (fun u => by have := hq3.1.1; rw [u, kB] at this; cases this) (fun y _ hy u => by rw [u, kB] at hy; cases hy)⟩
    have hmk : (S.2 0 (jg_n (S.2 25 k)) = 40) ↔ lx_kind T n c = 40 := by rw [jc25, w2]; exact (lx_kind_40 v2).symm
    have hjg := jg_0 hWk (by omega) (by omega)
    refine blX3_finish_181 (fun y hy => ?_) a2.1.1 rfl kQ a2.1.2.2.1 kB a2.2.1.2 (X3_check_C (d := 610) (k := k) (n := n) (many := decide (S.2 0 (jg_n (S.2 25 k)) = 40)) hwk (by rw [hb0]; exact v10) (by omega) ⟨by omega, by omega⟩ w1 v9 (by omega) hQb ?_ (fun y y1 y2 => m1 y y1 (by omega)) (fun u => v12 (hmk.1 (of_decide_eq_true u))) (by rw [show Lf k + (Lf (k + 1) - Lf k) = Lf (k + 1) by omega]; exact v11) (by omega) (Nat.le_refl _)) (by show 610 + 1 ≤ D; omega) (by show Pp (k + 1) - 1 + 1 - Pp k ≤ _; omega) ?_ (fun E a G' u => wk_out0 rfl ?_)
    · rw [← Option.some.inj hy, kQ]
      exact ⟨by decide, by decide, Or.inl rfl⟩
    · rw [m2, jc25]
      by_cases u : lx_kind T n c = 40
      · rw [if_pos u, if_pos (decide_eq_true (by rw [← jc25]; exact hmk.2 u))]
      · rw [if_neg u, if_neg (fun w => u (hmk.1 (by rw [jc25]; exact of_decide_eq_true w)))]
    · rintro v G1 ⟨rfl, A1, C1, F1, c1, c2, c3, c4, c5, c6⟩
      rw [← hjg] at c1
      rw [hb0] at c2 c3 c5
      have hwn : ∀ y, (∃ e, Pp k ≤ e ∧ e < Pp (k + 1) ∧ y = X e) → (13 ≤ hp_kd (hp_sI G q.1.2.2.2.1 7 (hp_i G (Q k) 2)) y ∧ hp_kd (hp_sI G q.1.2.2.2.1 7 (hp_i G (Q k) 2)) y ≤ 21) := by
        rintro y ⟨e, u1, u2, rfl⟩
        exact hwb.k (by omega) (by omega)
      have hI1 : fnI (fnB q S X lo G00 Lc Lm Lr nml cq) q Q k0 Lf p S X G00 G1 Lv hv cv Le ce I := hIb.fr c2.1 (fun y u => Or.inl (hwn y u)) (fun y hy u => by
        obtain ⟨e, u1, u2, rfl⟩ := u
        exact absurd (hfr e (by omega) (by omega)) hy) (fun w => w.fr c2.1 b1 (fun y u => Or.inl (hwn y u)) (fun e u1 u2 w => w.wt c2 (fun e' x1 x2 => hwb.k (by omega) (by omega))))
      refine blX3_finish_201 ?_
      rw [nI_1, show k - k0 + 1 = k + 1 - k0 by omega]
      refine wk_less (r' := pr_p S - Pp (k + 1) + A) (by show _ ≤ pr_p S - Pp k + A - 0 - 0 - (Pp (k + 1) - 1 + 1 - Pp k); omega) ?_
      refine ih (k + 1) (jg_st S k A1 C1) G1 (fun x => if x < Pp k then F x else F1 x) hW.jst hnh hfr (by omega) (by show k + 1 + m = pr_k S; omega) hI1.jst (fun j j1 j2 => ?_) (fun kd pl u => hx kd pl (by rw [nd_jg_go c1]; exact u)) (fun S' G' F' u => K S' G' F' (by rw [nd_jg_go c1]; exact u))
      have eC : ∀ x, (jg_st S k A1 C1).2 36 x = C1 x := fun x => rfl
      have mono : ∀ a b, k0 ≤ a → a ≤ b → b ≤ pr_k S → Pp a ≤ Pp b := fun a b w1' w2' w3' => by
        have := mono_k (P := Pp) (q := k0) (q' := pr_k S) (fun z z1 z2 => by obtain ⟨c', hz, -⟩ := w9 z z1 z2; exact hz.2.2.2.2.1) (b - a) a w1' (by omega)
        rw [show a + (b - a) = b by omega] at this
        exact this
      by_cases ej : j = k
      · subst ej
        refine ⟨fun x x1 x2 => ?_, ?_, fun y y1 y2 x hx9 => ?_⟩
        · show clk q S G1 X x (if x < Pp j then F x else F1 x)
          rw [if_neg (by omega)]
          exact c3 x x1 x2
        · show (if Pp (j + 1) - 1 < Pp j then F (Pp (j + 1) - 1) else F1 (Pp (j + 1) - 1)) = _
          rw [if_neg (by omega)]
          exact c4
        · have hx1 := (v10 y y1 y2).2.kl (by omega)
          have hx2 := (pw_k_mem _ _ hx1.2.1).2 x hx9
          have hx3 := (v10 y y1 y2).1
          show (if x < Pp j then F x else F1 x) = if C1 x = -2 then stO S (fun x => if x < Pp j then F x else F1 x) y else C1 x
          rw [if_neg (by omega), c5 y y1 y2 x hx9]
          unfold stO
          rw [show (fun x => if x < Pp j then F x else F1 x) y = F1 y from if_neg (by omega)]
      · obtain ⟨g1, g2, g3⟩ := hFb j j1 (by omega)
        obtain ⟨cj, hWj, -, hPj, hPjl⟩ := w9 j j1 (by omega)
        have hPk := mono (j + 1) k (by omega) (by omega) (by omega)
        have hj1 := hWj.2.2.2.2.1
        have hC : ∀ x, x < Pp k → C1 x = S.2 36 x := c6
        refine ⟨fun x x1 x2 => ?_, ?_, fun y y1 y2 x hx9 => ?_⟩
        · show clk q S G1 X x (if x < Pp k then F x else F1 x)
          rw [if_pos (by omega)]
          exact (g1 x x1 x2).wt hwb ⟨by omega, by omega⟩ c2 (by omega) (by omega) (Or.inl (by omega))
        · show (if Pp (j + 1) - 1 < Pp k then F (Pp (j + 1) - 1) else F1 (Pp (j + 1) - 1)) = if C1 (Pp (j + 1) - 1) = -2 then _ else C1 (Pp (j + 1) - 1)
          rw [if_pos (by omega), hC _ (by omega)]
          exact g2
        · have hx1 := (hWj.2.2.2.2.2.2.2.2.2.1 y y1 y2).2.kl (by omega)
          have hx2 := (pw_k_mem _ _ hx1.2.1).2 x hx9
          show (if x < Pp k then F x else F1 x) = if C1 x = -2 then stO S (fun x => if x < Pp k then F x else F1 x) y else C1 x
          rw [if_pos (by omega), hC x (by omega), g3 y y1 y2 x hx9]
          unfold stO
          rw [show (fun x => if x < Pp k then F x else F1 x) y = F y from if_pos (by omega)]
    · obtain ⟨kd, c1, c2, c3, G1, c4, c5, c6⟩ := u
      rw [← hjg] at c1
      have er := hx kd _ (nd_jg_in c1)
      rw [hb0] at c4
      refine ⟨kd, _, er, c2, c3, ?_, ?_, ?_⟩
      · rw [c6, hp_i_sI, if_pos rfl, if_pos rfl]
      · subst c3
        rw [c6, hp_i_sI, if_pos rfl, if_neg (by decide), (c4.2 _ (show hp_kd (hp_sI G q.1.2.2.2.1 7 (hp_i G (Q k) 2)) q.1.2.2.2.1 ≠ 0 by show hp_kd G _ ≠ 0; rw [kB]; decide)).1, hp_i_sI, if_pos rfl, if_pos rfl, hq1.2.2, v1, nI_clamp (by omega)]
      · have hfin : cf (fun y => (∃ e, Pp k ≤ e ∧ e < Pp (k + 1) ∧ y = X e) ∨ y = q.1.2.2.2.1) (hp_sI G q.1.2.2.2.1 7 (hp_i G (Q k) 2)) G' := by
          rw [c6, c3]
          exact (c4.1.mono (own2 := fun y => (∃ e, Pp k ≤ e ∧ e < Pp (k + 1) ∧ y = X e) ∨ y = q.1.2.2.2.1) (fun _ _ u => Or.inl u)).sI (Or.inl (Or.inr rfl))
        have hI2 : fnI (fun _ => True) q Q k0 Lf p S X G00 G' Lv hv cv Le ce I := hIb.fr hfin (fun y u => u.imp (fun ⟨e, u1, u2, u3⟩ => by rw [u3]; exact hwb.k (by omega) (by omega)) id) (fun y hy u => u.elim (fun ⟨e, u1, u2, u3⟩ => absurd (hfr e (by omega) (by omega)) (by rw [← u3]; exact hy)) id) (fun _ => trivial)
        obtain ⟨-, -, -, -, ⟨f0, k00⟩, -⟩ := hI2
        exact ⟨f0, k00⟩
end
