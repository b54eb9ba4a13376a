/-! THE COMPONENT's PARSER: a node's body, up to its end -/
set_option maxRecDepth 100000
theorem nd_3_E {S : MS} : pE_same S (nd_3 S) := ⟨rfl, rfl, by
  show ((nd_3 S).2 12 (pr_N S)).toNatClampNeg = (S.2 12 (pr_N S)).toNatClampNeg
  rw [nd_3_12, if_neg (by omega)], fun k hk => nd_3_o (by omega) (by omega)⟩
section
variable {q : PZ} {S S' : MS} {X : Nat → Nat} {G G' G00 : GH} {c c' t L Lv hv cv Le Lc Lm Lr i o : Nat} {vk : (Nat → Nat) × (Nat → Int32)} {nml : List Nat}
theorem X3_node_bd {f D B cs ss A r2 : Nat} {P : Option WV → GH → Prop} {r : PE} (hcmp : cmp_o q.1.1) (hD : 902 ≤ D) (hsn : sn G00) (h0 : hdI q vk c S G00 G Lv hv cv Le Lc Lm Lr nml) (hF : hdF q vk S G i o) (hM : lx_isW (rz_T q.1) (rz_n q.1) c "let" → ∃ b k N, nd_M (rz_n q.1) (lx_next (rz_T q.1) (rz_n q.1) c) b k N (nd_3 S)) (h : nd_bd (rz_T q.1) (rz_n q.1) f c S = some r)
    (K : ∀ c1 G1 c6 S6 X6 Mf Q G6 ce r6, lx_isW (rz_T q.1) (rz_n q.1) c "let" → nd_en (rz_T q.1) (rz_n q.1) (pr_k S) c6 S6 = some r → (∃ e, pe_eqs (rz_T q.1) (rz_n q.1) f f c1 (nd_3 S) = some (.inr (e, c6, S6))) → c1 = lx_next (rz_T q.1) (rz_n q.1) c → hdI q vk c1 S G00 G1 Lv hv cv Le Lc Lm Lr nml → hdF q vk S G1 i o → eqI (qVK q vk) Mf Q (pr_p S) (pr_k S) c6 (nd_3 S) S6 X6 G00 G1 G6 Le ce → 22 * (rz_n q.1 - c6) + 30 + (A + 2 * c1) ≤ r6 → wk_V q.1.1 mX3_node (D, B, P, xq_X q G00 r, cs, ss) 250 [(0, vR (some q.1.2.1))] [] G6 r6)
    (hr2 : 20 * (rz_n q.1 - c) + 30 + (2 * rz_n q.1 + 20 + A) ≤ r2) : wk_V q.1.1 mX3_node (D, B, P, xq_X q G00 r, cs, ss) 231 [(0, vR (some q.1.2.1))] [] G r2 := by
  refine wk_less hr2 ?_
  unfold nd_bd at h
  refine blX3_node_231 h0.1.1.1.1 (X3_need_2_C (tx := "let") (d := 9) h0.1 h0.2.1.1.1 (by simp [lx_words]) (Nat.le_refl 9)) (by show 9 + 1 ≤ D; omega) (by omega) ?_ (fun E a G' u => wk_out0 rfl ⟨1, c, by rw [if_neg u.1] at h; exact (Option.some.inj h).symm, u.2.of h0.2.2.2.2.1.1 h0.2.2.2.2.1.2 (fun _ _ u => u)⟩)
  rintro v G1 ⟨rfl, hq, t1, t2⟩
  rw [if_pos hq] at h
  obtain ⟨tk1, tk2⟩ := lx_tkw (T := rz_T q.1) (n := rz_n q.1) (c := c) hq
  obtain ⟨hd1, i1⟩ := h0.scan t1 t2 (by omega)
  obtain ⟨b, k, N, hM⟩ := hM hq
  generalize ec1 : lx_next (rz_T q.1) (rz_n q.1) c = c1 at h hd1 tk1 tk2 hM
  have hF1 := hF.gi i1
  obtain ⟨r9, h9, hx9, h⟩ := pr_b_some h
  obtain ⟨hp1, pn1⟩ := hd1.pst (X := fun _ => 0)
  have ep : pr_p (nd_3 S) = pr_p S := rfl
  have ek : pr_k (nd_3 S) = pr_k S := rfl
  have ev : pr_v (nd_3 S) = pr_v S := rfl
  have eN : pr_N (nd_3 S) = pr_N S := rfl
  have ea : pr_a (nd_3 S) = pr_a S := nd_3_E.a
  have ei : pr_i (nd_3 S) = i := by
    have hi := hF.1
    have hg := hd1.2.2.2.1.2.1.1
    show ((nd_3 S).2 13 (pr_N (nd_3 S))).toNatClampNeg = i
    rw [nd_3_o (by decide) (by decide), eN, hF.2.1.1, nI_clamp (by omega)]
  have hK : ∀ v, pr_a (nd_3 S) ≤ v → v < pr_v (nd_3 S) → (qK (qVK q vk) v = 0 ↔ v < pr_a (nd_3 S) + pr_i (nd_3 S)) := fun v u1 u2 => by
    rw [ea] at u1 ⊢
    rw [ei]
    rw [ev] at u2
    show vk.2 v = 0 ↔ _
    refine ⟨fun w => Decidable.byContradiction fun w2 => ?_, fun w => hF.2.2.2.1 v u1 w⟩
    rcases Nat.lt_or_ge v (pr_a S + i + o) with w3 | w3
    · rw [hF.2.2.2.2.1 v (by omega) w3] at w; exact absurd w (by decide)
    · rw [hF.2.2.2.2.2 v w3 u2] at w; exact absurd w (by decide)
  obtain ⟨l1, l2, l3, l4⟩ := hd1.2.2.2.2.2.1.1
  have hI : eqI (qVK q vk) (fun _ => none) (fun _ => 0) (pr_p S) (pr_k S) c1 (nd_3 S) (nd_3 S) (fun _ => 0) G00 G1 G1 Le 0 := by
    refine ⟨⟨hd1.1, ?_, fun e a b => by rw [ep] at b; omega, ?_⟩, ⟨hM.1, hM.2.2.1, pq_same.rf⟩, ⟨Nat.le_refl _, fun _ _ => rfl, fun e a b => by rw [ep] at b; omega⟩, ⟨fun _ _ => Or.inl rfl, fun k a b => by rw [ek] at b; omega⟩, ⟨Nat.le_refl _, fun k a b => by rw [ek] at b; omega⟩, ⟨⟨l1, l2, l3, ?_⟩, fun k a b => by rw [ek] at b; omega⟩, Nat.zero_le _, hd1.2.2.2.2.1, rx.id0, fun _ _ => rfl⟩
    · rw [ev]
      exact hd1.2.1.cgE nd_3_E
    · rw [nd_3_o (by decide) (by decide)]
      exact hd1.2.2.2.1.2.2
    · rw [ek, Nat.sub_self]
      exact l4.cg (fun i hi => absurd hi (Nat.not_lt_zero i))
  refine X3_eqs_L (q := qVK q vk) (A := A + 2 * c1) (f0 := f) hcmp hD hsn hK hx9 (fun c6 S6 X6 Mf Q G6 ce r6 e6 hI6 hr6 => ?_) f c1 (nd_3 S) (fun _ => 0) (fun _ => none) (fun _ => 0) G1 0 _ h9 hI ?_
  · exact K c1 G1 c6 S6 X6 Mf Q G6 ce r6 hq (h _ _ _ e6) ⟨0, by rw [h9, e6]⟩ ec1.symm hd1 hF1 hI6 hr6
  · show 22 * (rz_n q.1 - c1) + 30 + (10 + 2 * (pr_k (nd_3 S) - pr_k S) - 0) + (A + 2 * c1) ≤ _
    rw [ek]
    omega
end
