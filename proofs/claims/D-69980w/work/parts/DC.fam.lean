/-! THE COMPONENT's PARSER: the family -/
set_option maxRecDepth 100000
def xq_Lp (q : PZ) (f : Nat) (M : MI) (ml pc rk : Nat) (lv : Nat → Option Nat → List (Nat × WV)) : Prop :=
  ∀ d D S0 X0 G0 r lo lf a c0 c p S X G, d ≤ 40 → 20 * (42 - d) + 60 - rk ≤ D → lo ≤ lf → xq_pre q lo c S X G → pin q S0 X0 G0 S X G → c0 ≤ c → pp_pre (rz_n q.1) ml a [] lf p c S → pp (rz_T q.1) (rz_n q.1) f ml d a [] c S = some r → wk_V q.1.1 M (D, 20 * (rz_n q.1 - c0) + 20, xq_N q lo c0 S0 X0 G0 r, xq_X q G0 r, hp_cs G0, hp_ss G0) pc (lv d (some (X a))) [] G (20 * (rz_n q.1 - c) + 20)
def xq_F (q : PZ) (f : Nat) : Prop :=
  xq_IH q (pp (rz_T q.1) (rz_n q.1) f) ∧ xq_Lp q f mX3_either 3 6 2 (fun d a => [(0, vR (some q.1.2.1)), (1, vI (nI d)), (2, vR a)]) ∧ xq_Lp q f mX3_both 5 6 4 (fun d a => [(0, vR (some q.1.2.1)), (1, vI (nI d)), (2, vR a)]) ∧
  xq_Lp q f mX3_sum 8 6 7 (fun d a => [(0, vR (some q.1.2.1)), (1, vI (nI d)), (2, vR a)]) ∧ xq_Lp q f mX3_product 10 6 9 (fun d a => [(0, vR (some q.1.2.1)), (1, vI (nI d)), (2, vR a)]) ∧ xq_Lp q f mX3_unary 12 120 11 (fun _ a => [(0, vR (some q.1.2.1)), (2, vR a)]) ∧
  (∀ k d D S00 X00 G00 G0 r lo lf l c0 c p S X G cap t L mv, d ≤ 40 → 20 * (42 - d) + 45 ≤ D → lo ≤ lf → xq_pre q lo c S X G → pin q S00 X00 G00 S X G → pd q lo S G00 G X t 21 l cap L → hp_r G t 5 = some (qN q k) → cm G t mv → cap ≤ l.length + l.length / 2 + 10 → c0 ≤ c → pp_pre (rz_n q.1) 15 k l lf p c S → pp (rz_T q.1) (rz_n q.1) f 15 d k l c S = some r → wk_V q.1.1 mX3_arguments (D, 20 * (rz_n q.1 - c0) + 20, xq_A q lo c0 S00 X00 G00 G0 t mv r, xq_X q G00 r, hp_cs G0, hp_ss G0) 21 [(0, vR (some q.1.2.1)), (1, vR (some t)), (2, vI (nI d))] [vI 1] G (20 * (rz_n q.1 - c) + 20 + (10 + 2 * l.length - cap)))
theorem xq_all {q : PZ} (hcmp : cmp_o q.1.1) : ∀ f, xq_F q f := by
  intro f
  induction f with
  | zero =>
    refine ⟨⟨fun m d c lo S X G r D _ _ _ h _ => (pp_none h).elim, fun k d c lo S X G r D t L S0 X0 G0 mv _ _ _ _ _ _ _ h _ => (pp_none h).elim, pp_ok pc_cl_T 0⟩, ?_, ?_, ?_, ?_, ?_, ?_⟩
    · exact fun d D S0 X0 G0 r lo lf a c0 c p S X G _ _ _ _ _ _ _ h => (pp_none h).elim
    · exact fun d D S0 X0 G0 r lo lf a c0 c p S X G _ _ _ _ _ _ _ h => (pp_none h).elim
    · exact fun d D S0 X0 G0 r lo lf a c0 c p S X G _ _ _ _ _ _ _ h => (pp_none h).elim
    · exact fun d D S0 X0 G0 r lo lf a c0 c p S X G _ _ _ _ _ _ _ h => (pp_none h).elim
    · exact fun d D S0 X0 G0 r lo lf a c0 c p S X G _ _ _ _ _ _ _ h => (pp_none h).elim
    · exact fun k d D S00 X00 G00 G0 r lo lf l c0 c p S X G cap t L mv _ _ _ _ _ _ _ _ _ _ _ h => (pp_none h).elim
  | succ f ih =>
    obtain ⟨i0, i3, i5, i8, i10, i12, i15⟩ := ih
    refine ⟨⟨?_, ?_, pp_ok pc_cl_T (f + 1)⟩, ?_, ?_, ?_, ?_, ?_, ?_⟩
    · intro m d c lo S X G r D hm hs hd h hD
      simp only [List.mem_cons, List.not_mem_nil, or_false] at hm
      rcases hm with rfl | rfl | rfl | rfl | rfl | rfl | rfl | rfl | rfl
      · exact X3_expr_W i0 hs (by omega) h hD
      · exact X3_impl_W i0 hs (by omega) h hD
      · exact X3_either_W i0 (fun S0 X0 G0 c0 lf a c p S X G q0 q1 q2 q3 q4 q5 => i3 d D S0 X0 G0 r lo lf a c0 c p S X G (by omega) hD q0 q1 q2 q3 q4 q5) hs (by omega) h hD
      · exact X3_both_W i0 (fun S0 X0 G0 c0 lf a c p S X G q0 q1 q2 q3 q4 q5 => i5 d D S0 X0 G0 r lo lf a c0 c p S X G (by omega) hD q0 q1 q2 q3 q4 q5) hs (by omega) h hD
      · exact X3_cmp_W i0 hs (by omega) h hD
      · exact X3_sum_W i0 (fun S0 X0 G0 c0 lf a c p S X G q0 q1 q2 q3 q4 q5 => i8 d D S0 X0 G0 r lo lf a c0 c p S X G (by omega) hD q0 q1 q2 q3 q4 q5) hs (by omega) h hD
      · exact X3_product_W i0 (fun S0 X0 G0 c0 lf a c p S X G q0 q1 q2 q3 q4 q5 => i10 d D S0 X0 G0 r lo lf a c0 c p S X G (by omega) hD q0 q1 q2 q3 q4 q5) hs (by omega) h hD
      · rcases Nat.lt_or_ge 40 d with u | u
        · -- too deep
          have h' : pp_una (rz_T q.1) (rz_n q.1) (pp (rz_T q.1) (rz_n q.1) f) d c S = some r := h
          unfold pp_una at h'
          rw [if_pos u] at h'
          have hp := hs.1
          refine wk_C_of (M := mX3_unary) (by decide) rfl (Nat.le_of_ble_eq_true rfl) ?_
          refine blX3_unary_0 hp.1.1.1.1 (X3_deep_C (d := 1) hp.1 (by omega) (Nat.le_refl 1)) (by show _ ≤ D; omega) (Nat.zero_le _) ?_ (fun E a G' u => wk_out0 rfl (u.2.X (pin.id0 (S := S) (X := X)) h'))
          rintro v G1 ⟨-, u2, -⟩
          omega
        · exact X3_unary_W i0 (fun S0 X0 G0 c0 lf a c p S X G q0 q1 q2 q3 q4 q5 => i12 d D S0 X0 G0 r lo lf a c0 c p S X G u hD q0 q1 q2 q3 q4 q5) hs (by omega) h hD
      · exact X3_atom_W i0 hcmp hs (by omega) h hD
    · intro k d c lo S X G r D t L S0 X0 G0 mv hk hs pn hpd h5 hm hd h hD
      exact X3_args_W i0 (fun lf l c1 p S1 X1 G1 cap q0 q1 q2 q3 q4 q5 q6 q7 q8 q9 => i15 k d D S0 X0 G0 G r lo lf l c c1 p S1 X1 G1 cap t L mv hd hD q0 q1 q2 q3 q4 q5 q6 q7 q8 q9) hk hs pn hpd h5 hm hd h hD
    · intro d D S0 X0 G0 r lo lf a c0 c p S X G hd hD q0 q1 q2 q3 q4 h
      exact X3_either_L i0 hd hD q0 (fun a c p S X G y1 y2 y3 y4 y5 => i3 d D S0 X0 G0 r lo lf a c0 c p S X G hd hD q0 y1 y2 y3 y4 y5) q1 q2 q3 q4 h
    · intro d D S0 X0 G0 r lo lf a c0 c p S X G hd hD q0 q1 q2 q3 q4 h
      exact X3_both_L i0 hd hD q0 (fun a c p S X G y1 y2 y3 y4 y5 => i5 d D S0 X0 G0 r lo lf a c0 c p S X G hd hD q0 y1 y2 y3 y4 y5) q1 q2 q3 q4 h
    · intro d D S0 X0 G0 r lo lf a c0 c p S X G hd hD q0 q1 q2 q3 q4 h
      exact X3_sum_L i0 hd hD q0 (fun a c p S X G y1 y2 y3 y4 y5 => i8 d D S0 X0 G0 r lo lf a c0 c p S X G hd hD q0 y1 y2 y3 y4 y5) q1 q2 q3 q4 h
    · intro d D S0 X0 G0 r lo lf a c0 c p S X G hd hD q0 q1 q2 q3 q4 h
      exact X3_product_L i0 hd hD q0 (fun a c p S X G y1 y2 y3 y4 y5 => i10 d D S0 X0 G0 r lo lf a c0 c p S X G hd hD q0 y1 y2 y3 y4 y5) q1 q2 q3 q4 h
    · intro d D S0 X0 G0 r lo lf a c0 c p S X G hd hD q0 q1 q2 q3 q4 h
      exact X3_when_L (d := d) i0 hcmp (by omega) q0 (fun a c p S X G y1 y2 y3 y4 y5 => i12 d D S0 X0 G0 r lo lf a c0 c p S X G hd hD q0 y1 y2 y3 y4 y5) q1 q2 q3 q4 h
    · intro k d D S00 X00 G00 G0 r lo lf l c0 c p S X G cap t L mv hd hD q0 q1 q2 q3 q4 q5 q6 q7 q8 h
      exact X3_args_L i0 hd hD q0 (fun l c p S X G cap y1 y2 y3 y4 y5 y6 y7 y8 y9 => i15 k d D S00 X00 G00 G0 r lo lf l c0 c p S X G cap t L mv hd hD q0 y1 y2 y3 y4 y5 y6 y7 y8 y9) q1 q2 q3 q4 q5 q6 q7 q8 h
