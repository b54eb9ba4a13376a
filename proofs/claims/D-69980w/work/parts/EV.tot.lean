/-! THE COMPONENT: a node's sums are those of its tree -/
set_option maxRecDepth 100000
theorem nx_s2 (s : Int32) : nx_s s ≤ 2 := by
  unfold nx_s
  split
  · omega
  · split <;> omega
theorem ts_e_rg {h : Nat → Nat} {S S' : MS} : ∀ m e, (∀ x, e ≤ x → x < e + m → S'.2 32 x = S.2 32 x ∧ S'.2 33 x = S.2 33 x) → ts_e h S' m e = ts_e h S m e := by
  intro m
  induction m with
  | zero => intro e _; rfl
  | succ m ih =>
    intro e hh
    rw [ts_e, ts_e, ih (e + 1) (fun x a b => hh x (by omega) (by omega)), (hh e (Nat.le_refl _) (by omega)).1, (hh e (Nat.le_refl _) (by omega)).2]
theorem sT_all {U : Nat → Nat} {S : MS} {lo : Nat} : ∀ m, sT U S (cls S lo (lo + m)) (cls S lo (lo + m)).length = ts_e U S m lo := by
  intro m
  induction m with
  | zero =>
    unfold cls
    rw [Nat.add_zero, Nat.sub_self]
    rfl
  | succ m ih =>
    rw [show ts_e U S (m + 1) lo = ts_e U S m lo + ts_e U S 1 (lo + m) from ts_e_add m lo, ← ih]
    have e := cls_s (S := S) (lo := lo) (l := lo + m) (Nat.le_add_right _ _)
    rw [show lo + (m + 1) = lo + m + 1 by omega, e]
    unfold sT
    rw [List.take_length, List.take_length, List.map_append, List.sum_append]
    congr 1
    show _ = (if S.2 32 (lo + m) = 3 then U (jg_n (S.2 33 (lo + m))) else 0) + 0
    by_cases u : S.2 32 (lo + m) = 3
    · rw [if_pos u, if_pos u]; rfl
    · rw [if_neg u, if_neg u]; rfl
section
variable {q : PZ} {c Ln cn hN : Nat} {S : MS} {d : Nat → ND} {TP TC TA A P Qn L : Nat → Nat} {G : GH}
theorem sums_ts {T : Nat → Int32} {n : Nat} {U g : Nat → Nat} (hF : nfs T n S A Qn P L) (hag : ∀ f, f < pr_N S → ag (A (f + 1)) (Qn (f + 1)) (L (f + 1)) (P (f + 1)) (d f).2.1 S) (hcal : ∀ f, f < pr_N S → ∀ x, P f ≤ x → x < P (f + 1) → (d f).2.1.2 32 x = 3 → jg_n ((d f).2.1.2 33 x) < f)
    (hU : ∀ f, f < pr_N S → U f = g f + sT U (d f).2.1 (cls (d f).2.1 (P f) (P (f + 1))) (cls (d f).2.1 (P f) (P (f + 1))).length) : ∀ m f, f < m → f < pr_N S → U f = ts g S (pr_N S) f := by
  intro m
  induction m with
  | zero => intro f hf; omega
  | succ m ih =>
    intro f hf hN
    obtain ⟨i, o, hn⟩ := hF.2.1 f hN
    obtain ⟨e1, e2⟩ := nf_lohi hn
    have hle : P f ≤ P (f + 1) := hn.2.1.2.2.2.2.2.2.2.2.2.2.2.2.1
    obtain ⟨M, hM⟩ : ∃ M, pr_N S = M + 1 := ⟨pr_N S - 1, by omega⟩
    have hr : ∀ x, P f ≤ x → x < P f + (P (f + 1) - P f) → (d f).2.1.2 32 x = S.2 32 x ∧ (d f).2.1.2 33 x = S.2 33 x := fun x a b => ⟨((hag f hN).2.2.2.2 32 x (by omega) (by omega) (by omega)).symm, ((hag f hN).2.2.2.2 33 x (by omega) (by omega) (by omega)).symm⟩
    have s1 := sT_all (U := U) (S := (d f).2.1) (lo := P f) (P (f + 1) - P f)
    rw [show P f + (P (f + 1) - P f) = P (f + 1) by omega] at s1
    rw [hU f hN, s1, ts_e_rg _ _ hr]
    have e3 : ts g S (pr_N S) f = g f + ts_e (ts g S M) S (pn_hi S f - pn_lo S f) (pn_lo S f) := by rw [hM]; rfl
    rw [e3, e1, e2]
    congr 1
    refine (ts_e_cg2 _ _ (fun x a b u => ?_)).symm
    have hx := hr x a b
    have hc := hcal f hN x a (by omega) (by rw [hx.1]; exact u)
    rw [hx.2] at hc
    rw [ih _ (by omega) (by omega)]
    exact ts_fuel hF _ _ _ (by omega) (by omega) (by omega)
/-- the sums of a node that has been read -/
theorem rdZ.sums (h : rdZ q c S d TP TC TA A P Qn L Ln cn hN G) {f : Nat} (hf : f < pr_N S) : TP f = ts (own_p S) S (pr_N S) f ∧ TC f = ts (stn S) S (pr_N S) f ∧ TA f = ts (vcn S) S (pr_N S) f := by
  obtain ⟨-, -, ⟨-, hF⟩, -, -, hZ⟩ := h
  have hag : ∀ f, f < pr_N S → ag (A (f + 1)) (Qn (f + 1)) (L (f + 1)) (P (f + 1)) (d f).2.1 S := fun f hf => (hZ f hf).2.2.1
  have hcal : ∀ f, f < pr_N S → ∀ x, P f ≤ x → x < P (f + 1) → (d f).2.1.2 32 x = 3 → jg_n ((d f).2.1.2 33 x) < f := fun f hf => (hZ f hf).2.2.2.2.2.2
  refine ⟨sums_ts hF hag hcal (fun f hf => ?_) _ f (Nat.lt_succ_self f) hf, sums_ts hF hag hcal (fun f hf => ?_) _ f (Nat.lt_succ_self f) hf, sums_ts hF hag hcal (fun f hf => ?_) _ f (Nat.lt_succ_self f) hf⟩
  · obtain ⟨i, o, hn⟩ := hF.2.1 f hf
    obtain ⟨e1, e2⟩ := nf_lohi hn
    obtain ⟨⟨a1, a2, a3, a4, a5, a6⟩, ⟨b1, b2, b3, b4, b5, b6, b7, b8, b9, b10, -⟩, -⟩ := hn
    rw [show own_p S f = Qn (f + 1) - Qn f + (P (f + 1) - P f) by unfold own_p; rw [e1, e2, a5, a6, show jg_n (nI (Qn (f + 1))) = Qn (f + 1) from nI_clamp (by omega), show jg_n (nI (Qn f)) = Qn f from nI_clamp (by omega)]]
    exact (hZ f hf).2.2.2.1.1
  · obtain ⟨i, o, hn⟩ := hF.2.1 f hf
    have h17 := hn.2.2.2.2.1.1
    have hp := hn.2.1.2.2.2.2.2.2.2.1
    have hle := hn.2.1.2.2.2.2.2.2.2.2.2.2.2.2.1
    have hb := nx_t_le (g := nx_s) (B := S.2 32) (p := P f) nx_s2 (P (f + 1) - P f)
    rw [show stn S f = nx_t nx_s ((d f).2.1.2 32) (P f) (P (f + 1) - P f) by
      unfold stn
      rw [h17, show jg_n (nI (nx_t nx_s (S.2 32) (P f) (P (f + 1) - P f))) = nx_t nx_s (S.2 32) (P f) (P (f + 1) - P f) from nI_clamp (by omega)]
      exact nx_t_cg _ (fun x a b => (hag f hf).2.2.2.2 32 x (by omega) (by omega) (by omega))]
    exact (hZ f hf).2.2.2.1.2.1
  · obtain ⟨i, o, hn⟩ := hF.2.1 f hf
    obtain ⟨⟨a1, a2, a3, a4, a5, a6⟩, ⟨b1, b2, b3, b4, b5, b6, b7, -⟩, -⟩ := hn
    rw [show vcn S f = A (f + 1) - A f by unfold vcn; rw [a1, a2, show jg_n (nI (A (f + 1))) = A (f + 1) from nI_clamp (by omega), show jg_n (nI (A f)) = A f from nI_clamp (by omega)]]
    exact (hZ f hf).2.2.2.1.2.2
end
