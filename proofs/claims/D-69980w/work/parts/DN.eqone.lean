/-! THE COMPONENT's PARSER: an equation with one left side -/
set_option maxRecDepth 100000
section
variable {q : PZ} {S S' S0 S3 : MS} {X X' X0 X3 : Nat → Nat} {G G' G0 G00 G3 : GH} {lo : Nat}
theorem X3_eq_one {f D c k0 Le ce x L r2 : Nat} {Q : Nat → Nat} {r : PE} (ih : xq_IH q (pp (rz_T q.1) (rz_n q.1) f)) (hcmp : cmp_o q.1.1) (hD : 901 ≤ D) (hp : pst q lo c S X G) (hE : pn_E (rz_n q.1) c S) (hB : S.2 26 (pr_k S) = nI (pr_l S)) (hlo : lo ≤ pr_p S) (hM : ∀ e, pr_p S ≤ e → qM q e = none) (hK : ∀ v, pr_a S ≤ v → v < pr_v S → (qK q v = 0 ↔ v < pr_a S + pr_i S)) (hk0 : k0 ≤ pr_k S) (hW : ∀ k, k0 ≤ k → k < pr_k S → jg_n (S.2 27 k) < pr_p S ∧ jg_n (S.2 26 (k + 1)) ≤ pr_l S) (hL : eqL q Q k0 S X G00 G Le ce) (f00 : rx q.1 no9 G00 G) (k00 : rkk q.1 G00 G)
    (hq : ¬ lx_kind (rz_T q.1) (rz_n q.1) c = 40) (hr : pr_b (pe_one (rz_T q.1) (rz_n q.1) f (pr_k S) c (pe_0 S (pr_k S) c)) (fun _ c1 S1 => pe_end (rz_T q.1) (rz_n q.1) (pr_k S) c1 S1) = some r)
    (h3 : pst q lo c (pe_0 S (pr_k S) c) X G3) (he : eqp q (pe_0 S (pr_k S) c) G G3 x (nI c) (pr_l S) 0 0 L) (fx : rx q.1 no9 G G3) (kx : rkk q.1 G G3) (hr2 : 20 * (rz_n q.1 - c) + 28 + al_b (pr_k S - k0) ce ≤ r2) :
    wk_V q.1.1 mX3_equation (D, 20 * (rz_n q.1 - c) + 30 + al_b (pr_k S - k0) ce, eqP q Q k0 lo c S X G00 G Le ce r, xq_X q G00 r, hp_cs G, hp_ss G) 161 [(0, vR (some q.1.2.1)), (1, vR (some x))] [] G3 r2 := by
  obtain ⟨hV, g1, g2, g3, g4, g5, g6, g7, g8, g9, g10⟩ := id hE
  have hE0 := pe_0_E hE
  have sb0 := pe_0_same (S := S) (k := pr_k S) (c := c)
  have hV0 := hE0.1
  have hK0 : ∀ v, pr_a (pe_0 S (pr_k S) c) ≤ v → v < pr_v (pe_0 S (pr_k S) c) → (qK q v = 0 ↔ v < pr_a (pe_0 S (pr_k S) c) + pr_i (pe_0 S (pr_k S) c)) := by rw [sb0.a, sb0.v, sb0.i]; exact hK
  have pl0 : pr_l (pe_0 S (pr_k S) c) = pr_l S := rfl
  have pp0 : pr_p (pe_0 S (pr_k S) c) = pr_p S := rfl
  have pk0 : pr_k (pe_0 S (pr_k S) c) = pr_k S := rfl
  obtain ⟨r1, h1, hx1, hr⟩ := pr_b_some hr
  unfold pe_one at h1
  obtain ⟨r9, h2, hx2, h1⟩ := pr_b_some h1
  have kR3 := h3.1.1.1.1
  have kB3 := h3.1.1.2.1.1
  have f03 : rx q.1 no9 G00 G3 := f00.tr fx (fun _ _ u => u)
  have k03 : rkk q.1 G00 G3 := fun k hk => (kx k hk).trans (k00 k hk)
  have eb : al_b 0 0 = 1 := rfl
  refine wk_less hr2 ?_
  refine blX3_equation_161 rfl he.1.1.1 kR3 (X3_defined_C (d := 26) h3 hV0 hK0 hcmp (Nat.le_refl 26)) (by show 26 + 1 ≤ D; omega) (by omega) ?_ (fun E a G' u => wk_out0 rfl ?_)
  · rintro v G4 ⟨hdf, rfl, hp4, f4, k4⟩
    have hlf := hdf.left
    rw [hlf] at h2
    have h1 := h1 _ _ _ (Option.some.inj h2).symm
    obtain ⟨-, q1, q2, hR⟩ := pe_left_R hlf hE0
    have hM1 : pe_M1 (rz_n q.1) (pe_0 S (pr_k S) c) (pr_k S) (lx_next (rz_T q.1) (rz_n q.1) c) (pl_S (pe_0 S (pr_k S) c) (pr_fv (rz_n q.1) (pe_0 S (pr_k S) c) c - pr_a (pe_0 S (pr_k S) c))) := hR.M (by rw [q2]; omega)
    obtain ⟨he4, hr4⟩ := he.rx f4 kR3 kB3
    obtain ⟨d1, d2, d3⟩ := hdf
    have hfl := pr_fv_le (c := c) hV0
    have hvv := hV0.N.2.2.2.1
    have f04 : rx q.1 no9 G G4 := fx.tr f4 (fun _ _ u => u)
    have k04 : rkk q.1 G G4 := fun k hk => (k4 k hk).trans (kx k hk)
    refine blX3_equation_169 he.1.2.1.1 he4.1.2.2.1.1 (eqp_add (d := 6) hp4 he4 (by rw [pl0]; rfl) ⟨hfl, d2⟩ (by omega) (by decide) f04 k04 (Nat.le_refl 6)) (by show 6 + 1 ≤ D; omega) (by omega) ?_ (fun _ _ _ u => absurd u id)
    rintro w G5 ⟨rfl, hp5, he5, hr5, f5, k5⟩
    generalize hS1 : pl_S (pe_0 S (pr_k S) c) (pr_fv (rz_n q.1) (pe_0 S (pr_k S) c) c - pr_a (pe_0 S (pr_k S) c)) = S1 at h1 hR hM1 hp5 he5
    have e40 : S1.1 40 = nI (pr_p S) := by rw [← hS1]; exact g3
    have ep1 : pr_p S1 = pr_p S := by rw [← hS1]; rfl
    have el1 : pr_l S1 = pr_l S + 1 := by rw [← hS1]; exact q2
    have f05 : rx q.1 no9 G00 G5 := f00.tr f5 (fun _ _ u => u)
    have k05 : rkk q.1 G00 G5 := fun k hk => (k5 k hk).trans (k00 k hk)
    refine blX3_equation_172 hp5.1.1.1.1 (X3_need_C (k := 61) (d := 9) hp5.1 (by decide) (Nat.le_refl 9)) (by show 9 + 1 ≤ D; omega) (by omega) ?_ (fun E a G' u => wk_out0 rfl ⟨1, _, hx1 _ (by rw [if_neg u.1] at h1; exact (Option.some.inj h1).symm), u.2.of f05 k05 (fun _ _ u => u)⟩)
    rintro w G6 ⟨rfl, hq6, t3, t4⟩
    rw [if_pos hq6] at h1
    obtain ⟨tk1, tk2⟩ := lx_tk (T := rz_T q.1) (n := rz_n q.1) (c := lx_next (rz_T q.1) (rz_n q.1) c) (by rw [hq6]; decide)
    obtain ⟨hp6, pn6⟩ := hp5.scan t3 t4
    obtain ⟨he6, hr6⟩ := he5.rx pn6.2.2.2.2.1 hp5.1.1.1.1 hp5.1.1.2.1.1
    have f6 : rx q.1 no9 G G6 := f5.tr pn6.2.2.2.2.1 (fun _ _ u => u)
    have k6 : rkk q.1 G G6 := fun k hk => (pn6.2.2.2.2.2 k hk).trans (k5 k hk)
    have f06 : rx q.1 no9 G00 G6 := f00.tr f6 (fun _ _ u => u)
    have k06 : rkk q.1 G00 G6 := fun k hk => (k6 k hk).trans (k00 k hk)
    obtain ⟨r3, h4, hx3, h1⟩ := pr_b_some h1
    have hx6 : xq_pre q lo (lx_next (rz_T q.1) (rz_n q.1) (lx_next (rz_T q.1) (rz_n q.1) c)) S1 X G6 := ⟨hp6, ⟨pr_p S, e40, by omega, tk2, hR.1.1⟩, by rw [ep1]; exact hlo, by rw [ep1]; exact hM⟩
    refine wk_have fun hA hB9 => ?_
    refine blX3_equation_180 hp6.1.1.1.1 (ih.1 0 0 _ lo S1 X G6 r3 900 (by decide) hx6 (Or.inl (Nat.zero_le _)) h4 (by decide)) (by show 900 + 1 ≤ D; omega) (by omega) ?_ (fun E a G' u => wk_out0 rfl ?_)
    · rintro w G7 ⟨e, c7, S7, X7, he7, rfl, hp7, pn7, hb7⟩
      have h1 := h1 _ _ _ he7
      rw [he7] at h4
      obtain ⟨hM2, u1, u2, u3, u4, u5, hpR⟩ := (hM1.step (c2 := lx_next (rz_T q.1) (rz_n q.1) (lx_next (rz_T q.1) (rz_n q.1) c)) (by omega) tk2).rhs h4 (Or.inl rfl) (fun e => absurd e (by omega))
      obtain ⟨he8, hr8⟩ := he6.rx pn7.2.2.2.2.1 hp6.1.1.1.1 hp6.1.1.2.1.1
      have f7 : rx q.1 no9 G G7 := f6.tr pn7.2.2.2.2.1 (fun _ _ u => u)
      have k7 : rkk q.1 G G7 := fun k hk => (pn7.2.2.2.2.2 k hk).trans (k6 k hk)
      have sb8 : pq_same S7 (ml_sa S7 27 (pr_k S) (nI e)) := ⟨fun _ _ _ _ => rfl, fun k _ _ _ a _ => by funext j; rw [ml_sa_a, if_neg (by omega)]⟩
      have hp8 := hp7.cgE sb8.E rfl (fun k hk => by funext j; rw [ml_sa_a, if_neg (by omega)])
      have he9 : eqp q (ml_sa S7 27 (pr_k S) (nI e)) G G7 x (nI c) (pr_l S) (0 + 1) (al_c 0 0) L := he8.cgS (sb8.a.trans pn7.1.a) (fun j _ _ => by rw [ml_sa_a, if_neg (by decide), pn7.1.2 28 (by decide) (by decide) (by omega)])
      obtain ⟨y1, y2, y3, y4, y5⟩ := eqp_r1 (v := some (X7 e)) hp8 he9 f7 k7
      have hc7 := hp7.1.2.1
      refine wk_bk hA hB9 hb7 (r' := 20 * (rz_n q.1 - c7) + 20 + al_b (pr_k S - k0) ce) (by omega) ?_
      refine blX3_equation_186 rfl he8.1.1.1 he8.1.1.2.1 ?_
      have eq0 : qU q e none = q := by have := qU_self (q := q) (e := e); rw [hM e (by omega)] at this; exact this
      exact X3_eq_end (mv := none) (e := e) hp (by rw [eq0]; exact y1) y2 y5 hM2 u2 u3 (by rw [u5, el1]) (fun j hj => pn7.2.2.1 j (by omega)) (fun j u1 u2 => f6.1.fresh (pn7.2.2.2.1 j (by omega) u2)) (by rw [if_neg hq]) y3 y4 f00 k00 hE hB hk0 hW hL (by omega) (hr _ _ _ (Option.some.inj h1).symm) (by omega) (Nat.le_refl _)
    · obtain ⟨k, c', e, h2⟩ := u
      exact ⟨k, c', hx1 _ (hx3 _ e), h2.of f06 k06 (fun _ _ u => u)⟩
  · obtain ⟨k, u1, u2⟩ := u
    exact ⟨k, c, hx1 _ (hx2 _ (by rw [u1.left] at h2; exact (Option.some.inj h2).symm)), u2.of f03 k03 (fun _ _ u => u)⟩
end
