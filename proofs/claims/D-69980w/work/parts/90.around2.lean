/-! around: the parts of an expression -/
set_option maxRecDepth 100000
section
variable {z : MZ} {jm : MJ} {σ : MS} {a f k p b l m : Nat}
theorem around_k {e : Nat} (hf : f < 60) (h12 : σ.2 12 f = nI a) (hH : ar_H σ a k p b l m) (he : p ≤ e ∧ e ≤ b) : ∀ xs i x σ1 E, md_ch (σ.2 35) x xs → (∀ y ∈ xs, y < 5000) → i + xs.length < 10000 → ar_same σ σ1 → (∀ E, ml_V z mX6_around jm 343 [(0, vR (some z.2.1)), (1, vI (nI f)), (2, vI (nI k)), (3, vI (nI b)), (5, vI (nI e))] [] (ar_k a e xs i σ1) E jm.2.1) → ml_V z mX6_around jm 187 [(0, vR (some z.2.1)), (1, vI (nI f)), (2, vI (nI k)), (3, vI (nI b)), (5, vI (nI e)), (6, vI (nI i)), (7, vI x)] [] σ1 E jm.2.1 := by
  intro xs
  induction xs with
  | nil =>
    intro i x σ1 E h _ _ _ K
    exact mbaround_187 (fun _ => K _) (fun q => absurd h q)
  | cons x xs ih =>
    intro i x0 σ1 E h hy hi hs K
    obtain ⟨rfl, h⟩ := h
    have hx5 := hy x List.mem_cons_self
    simp only [List.length_cons] at hi
    obtain ⟨h1, h2, h3, h4, h5, h6, h7, h8, h9, h10, h11⟩ := hH.same hs
    obtain ⟨-, -, g26⟩ := h11 e he.1 he.2
    have ce : (nI e).toNatClampNeg = e := nI_clamp (by omega)
    have cx : (nI x).toNatClampNeg = x := nI_clamp (by omega)
    have vi : vp_in (nI e) 66000 := vp_in_nI (by omega) (by decide)
    have vx : vp_in (nI x) 66000 := vp_in_nI (by omega) (by decide)
    have hs1 : ar_same σ1 (ar_x σ1 a e x) := ar_x_same
    have e32 : (ar_x σ1 a e x).2 32 = σ1.2 32 := hs1.2 32 (by omega)
    have step327 : ∀ E s2, s2 = (if (ar_x σ1 a e x).2 32 e = 24 ∨ (ar_x σ1 a e x).2 32 e = 3 ∨ (ar_x σ1 a e x).2 32 e = 6 ∧ i = 1 then nI x else (ar_x σ1 a e x).2 44 e) → ml_V z mX6_around jm 327 [(0, vR (some z.2.1)), (1, vI (nI f)), (2, vI (nI k)), (3, vI (nI b)), (5, vI (nI e)), (6, vI (nI i)), (7, vI (nI x))] [vI s2, vI (nI x), vR (some (z.2.2.1 44))] (ar_x σ1 a e x) E jm.2.1 := by
      intro E s2 hq
      subst hq
      refine mbaround_327 vx vx ?_
      rw [cx, nI_1, (hs.tr hs1).2 35 (by omega)]
      exact ih (i + 1) _ _ _ h (fun y q => hy y (List.mem_cons_of_mem _ q)) (by omega) (hs.tr (hs1.tr ar_y_same)) K
    have to315 : ∀ E, ((ar_x σ1 a e x).2 32 e = 24 ∨ (ar_x σ1 a e x).2 32 e = 3 ∨ (ar_x σ1 a e x).2 32 e = 6 ∧ i = 1) → ml_V z mX6_around jm 315 [(0, vR (some z.2.1)), (1, vI (nI f)), (2, vI (nI k)), (3, vI (nI b)), (5, vI (nI e)), (6, vI (nI i)), (7, vI (nI x))] [vI (nI x), vR (some (z.2.2.1 44))] (ar_x σ1 a e x) E jm.2.1 := fun E q =>
      mbaround_315 (step327 _ _ (by rw [if_pos q]))
    have to320 : ∀ E, ¬ ((ar_x σ1 a e x).2 32 e = 24 ∨ (ar_x σ1 a e x).2 32 e = 3 ∨ (ar_x σ1 a e x).2 32 e = 6 ∧ i = 1) → ml_V z mX6_around jm 320 [(0, vR (some z.2.1)), (1, vI (nI f)), (2, vI (nI k)), (3, vI (nI b)), (5, vI (nI e)), (6, vI (nI i)), (7, vI (nI x))] [vI (nI x), vR (some (z.2.2.1 44))] (ar_x σ1 a e x) E jm.2.1 := fun E q =>
      mbaround_320 vi (step327 _ _ (by rw [if_neg q, ce]))
    have step267 : ∀ E s2, s2 = (if σ1.2 36 x = -2 then ar_o σ1 a e else σ1.2 36 x) → ml_V z mX6_around jm 267 [(0, vR (some z.2.1)), (1, vI (nI f)), (2, vI (nI k)), (3, vI (nI b)), (5, vI (nI e)), (6, vI (nI i)), (7, vI (nI x))] [vI s2, vI (nI x), vR (some (z.2.2.1 43))] σ1 E jm.2.1 := by
      intro E s2 hq
      subst hq
      have en : (nI i = 1) ↔ i = 1 := ⟨fun u => (nI_eq (a := i) (b := 1) (by omega) (by decide)).1 u, fun u => by rw [u]; rfl⟩
      refine mbaround_267 vx vi (fun q => ?_) (fun q => ?_)
      · rw [cx]
        rw [ce] at q
        exact to315 _ (Or.inl (by rw [e32]; exact q))
      · rw [cx]
        rw [ce] at q
        refine mbaround_286 vi (fun q2 => ?_) (fun q2 => ?_)
        · rw [ce] at q2
          exact to315 _ (Or.inr (Or.inl q2))
        · rw [ce] at q2
          refine mbaround_297 vi (fun q3 => ?_) (fun q3 => ?_)
          · rw [ce] at q3
            exact to320 _ (fun u => u.elim (fun u => q (by rw [e32] at u; exact u)) (fun u => u.elim q2 (fun u => q3 u.1)))
          · rw [ce] at q3
            refine mbaround_309 (fun q4 => ?_) (fun q4 => ?_)
            · exact to320 _ (fun u => u.elim (fun u => q (by rw [e32] at u; exact u)) (fun u => u.elim q2 (fun u => q4 (en.2 u.2))))
            · exact to315 _ (Or.inr (Or.inr ⟨q3, en.1 q4⟩))
    have step235 : ∀ E s0, s0 = ar_o σ1 a e → ml_V z mX6_around jm 235 [(0, vR (some z.2.1)), (1, vI (nI f)), (2, vI (nI k)), (3, vI (nI b)), (5, vI (nI e)), (6, vI (nI i)), (7, vI (nI x))] [vI s0] σ1 E jm.2.1 := by
      intro E s0 hq
      subst hq
      refine mbaround_235 vx (fun q => mbaround_260 vx (step267 _ _ ?_)) (fun q => mbaround_255 (step267 _ _ ?_))
      · rw [cx] at q ⊢
        rw [if_neg q]
      · rw [cx] at q
        rw [if_pos q]
    refine mbaround_187 (fun q => absurd q (nI_pos (by omega))) (fun _ => ?_)
    refine mbaround_192 vi (fun q => ?_) (fun q => ?_)
    · rw [ce] at q
      refine mbaround_228 vi (step235 _ _ ?_)
      rw [ce, ar_o, if_neg q]
    · rw [ce] at q
      obtain ⟨w, w1, w2⟩ := g26 q
      have hw : w < 2 ^ 30 := by omega
      have ed : σ1.2 12 (nI f).toNatClampNeg + σ1.2 33 (nI e).toNatClampNeg / 2 = nI (a + w / 2) := by
        have e2 : nI w / 2 = nI (w / 2) := pk_div (d := 2) (by omega) (by decide) (by decide)
        rw [nI_clamp (n := f) (by omega), ce, hs.2 12 (by omega), h12, w1, e2, nI_add]
      refine mbaround_204 (vp_in_nI (by omega) (by decide)) vi (by decide) (by rw [ed]; exact vp_in_nI (by omega) (by decide)) (step235 _ _ ?_)
      rw [ed, nI_clamp (n := a + w / 2) (by omega), ar_o, if_pos q, w1, nI_clamp (by omega)]
end
