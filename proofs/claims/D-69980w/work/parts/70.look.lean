/-! look of the reference -/
set_option maxRecDepth 100000
/-- what the judges of an equation ask of the names: types are 0 or 1; of each node what goes in, what comes out -/
def pj_V (n : Nat) (S : MS) : Prop := pe_V n S ∧ (∀ v, v < pr_v S → S.2 24 v = 0 ∨ S.2 24 v = 1) ∧ ∀ f, f < pr_N S → ∃ b i o, S.2 12 f = nI b ∧ S.2 13 f = nI i ∧ S.2 14 f = nI o ∧ 1 ≤ o ∧ b + i + o ≤ pr_v S
theorem lk_nat {x : Int32} {a b : Nat} (hb : b < 2 ^ 31) (h : nI a ≤ x ∧ x ≤ nI b) (ha : a ≤ b) : ∃ j, a ≤ j ∧ j ≤ b ∧ x = nI j := by
  obtain ⟨j, hj, e⟩ := nI_of (x := x) (fun u => absurd (Int32.le_trans (nI_pos' (n := a) (by omega)) h.1) (Int32.not_le.2 u))
  subst e
  exact ⟨j, (nI_leI (by omega) hj).1 h.1, (nI_leI hj hb).1 h.2, rfl⟩
theorem lk_range (x : Int32) (h : 5 ≤ x ∧ x ≤ 21) : x = 5 ∨ x = 6 ∨ x = 7 ∨ x = 8 ∨ x = 9 ∨ x = 10 ∨ x = 11 ∨ x = 12 ∨ x = 13 ∨ x = 14 ∨ x = 15 ∨ x = 16 ∨ x = 17 ∨ x = 18 ∨ x = 19 ∨ x = 20 ∨ x = 21 := by
  obtain ⟨j, h1, h2, rfl⟩ := lk_nat (a := 5) (b := 21) (by decide) h (by decide)
  have : j = 5 ∨ j = 6 ∨ j = 7 ∨ j = 8 ∨ j = 9 ∨ j = 10 ∨ j = 11 ∨ j = 12 ∨ j = 13 ∨ j = 14 ∨ j = 15 ∨ j = 16 ∨ j = 17 ∨ j = 18 ∨ j = 19 ∨ j = 20 ∨ j = 21 := by omega
  rcases this with rfl | rfl | rfl | rfl | rfl | rfl | rfl | rfl | rfl | rfl | rfl | rfl | rfl | rfl | rfl | rfl | rfl <;> decide
theorem lk_range2 (x : Int32) (h : 22 ≤ x ∧ x ≤ 26) : x = 22 ∨ x = 23 ∨ x = 24 ∨ x = 25 ∨ x = 26 := by
  obtain ⟨j, h1, h2, rfl⟩ := lk_nat (a := 22) (b := 26) (by decide) h (by decide)
  have : j = 22 ∨ j = 23 ∨ j = 24 ∨ j = 25 ∨ j = 26 := by omega
  rcases this with rfl | rfl | rfl | rfl | rfl <;> decide
section
variable {z : MZ}
theorem md_ch_1 {B : Nat → Int32} {x : Int32} {k : Nat} {ks : List Nat} (h : md_ch B x (k :: ks)) : x = nI k ∧ md_ch B (B k) ks := h
theorem look_n_V {jm : MJ} {σ : MS} {x1 x2 : Int32} : ∀ (l : List Nat) (x : Int32) (c : Nat) (E : GH → Prop), md_ch (σ.2 35) x l → (∀ k ∈ l, k < 66000) → (∀ E, ml_V z mX6_look jm 30 [(0, vR (some z.2.1)), (1, vI x1), (2, vI x2), (3, vI (nI (c + l.length)))] [] σ E jm.2.1) → ml_V z mX6_look jm 10 [(0, vR (some z.2.1)), (1, vI x1), (2, vI x2), (3, vI (nI c)), (4, vI x)] [] σ E jm.2.1
  | [], x, c, E, h, _, K => mblook_10 (fun _ => K _) (fun q => absurd h q)
  | k :: l, x, c, E, h, hk, K => by
    obtain ⟨rfl, h⟩ := h
    have hk0 := hk k List.mem_cons_self
    refine mblook_10 (fun q => absurd q (nI_pos (by omega))) (fun _ => ?_)
    refine mblook_15 (vp_in_nI hk0 (by decide)) ?_
    rw [nI_clamp (by omega), nI_1]
    exact look_n_V l _ (c + 1) _ h (fun q hq => hk q (List.mem_cons_of_mem _ hq)) (fun E => by
      have := K E
      rw [show c + 1 + l.length = c + (k :: l).length by simp; omega]
      exact this)
theorem X6_look_C {n d e outs : Nat} {σ : MS} (hJ : pj_V n σ) (he : e < 5000) (hn : pw_n σ e) (hA : ∀ k, k < e → lw (σ.2 34) e ≤ k → σ.2 41 k = 0 ∨ σ.2 41 k = 1) (ho : outs < 5000) (hd : 6 ≤ d) :
    ml_C z mX6_look d 1 [vR (some z.2.1), vI (nI e), vI (nI outs)] σ (fun v σ' _ => v = none ∧ ∃ t, jt σ (σ.2 41) e (kls σ e) outs = .inr t ∧ σ' = ml_sa σ 41 e t) (fun kd pl σ' => jt σ (σ.2 41) e (kls σ e) outs = .inl kd ∧ pl = σ.1 42 ∧ σ' = σ) := by
  obtain ⟨hch, hpk, hws⟩ := hn.kl (by omega)
  generalize hks : kls σ e = ks at *
  have hm := (pw_k_mem ks _ hpk).2
  have hlen := pw_k_len ks _ hpk
  obtain ⟨hV, h01, hnod⟩ := hJ
  obtain ⟨v1, v2, v3, v4, v5, v6, v7, v8, v9⟩ := hV.N
  have hce : (nI e).toNatClampNeg = e := nI_clamp (by omega)
  refine ml_C_of (by decide) rfl (Nat.le_of_ble_eq_true rfl) ?_
  have hi : vp_in (nI e) 66000 := vp_in_nI (by omega) (by decide)
  have fin : ∀ E t, jt σ (σ.2 41) e ks outs = .inr t → ml_V z mX6_look (d, 1, (fun v σ' _ => v = none ∧ ∃ t, jt σ (σ.2 41) e ks outs = .inr t ∧ σ' = ml_sa σ 41 e t), (fun kd pl σ' => jt σ (σ.2 41) e ks outs = .inl kd ∧ pl = σ.1 42 ∧ σ' = σ)) 677 [] [] (ml_sa σ 41 e t) E 1 := fun E t h => mblook_677 (fun G _ => ⟨rfl, t, h, rfl⟩)
  have tc487 : ∀ E (g : Int32), (g = 0 → jt σ (σ.2 41) e ks outs = .inl 4) → (∀ E, g ≠ 0 → ml_V z mX6_look (d, 1, (fun v σ' _ => v = none ∧ ∃ t, jt σ (σ.2 41) e ks outs = .inr t ∧ σ' = ml_sa σ 41 e t), (fun kd pl σ' => jt σ (σ.2 41) e ks outs = .inl kd ∧ pl = σ.1 42 ∧ σ' = σ)) 490 [(0, vR (some z.2.1)), (1, vI (nI e))] [] σ E 1) → ml_V z mX6_look (d, 1, (fun v σ' _ => v = none ∧ ∃ t, jt σ (σ.2 41) e ks outs = .inr t ∧ σ' = ml_sa σ 41 e t), (fun kd pl σ' => jt σ (σ.2 41) e ks outs = .inl kd ∧ pl = σ.1 42 ∧ σ' = σ)) 487 [(0, vR (some z.2.1)), (1, vI (nI e))] [vI g, vR (some z.2.1)] σ E 1 := fun E g h0 h1 =>
    mblook_487 (X6_type_C (Nat.le_refl 5)) (by show _ ≤ d; omega) (Nat.le_refl 1) (ml_kr0 fun σ' ⟨hg, hσ⟩ => by subst hσ; exact h1 _ hg) (fun kd pl σ' ⟨g1, g2, g3, g4⟩ => ⟨by rw [h0 g1, g2], g3, g4⟩)
  have tc523 : ∀ E (g : Int32), (g = 0 → jt σ (σ.2 41) e ks outs = .inl 4) → (∀ E, g ≠ 0 → ml_V z mX6_look (d, 1, (fun v σ' _ => v = none ∧ ∃ t, jt σ (σ.2 41) e ks outs = .inr t ∧ σ' = ml_sa σ 41 e t), (fun kd pl σ' => jt σ (σ.2 41) e ks outs = .inl kd ∧ pl = σ.1 42 ∧ σ' = σ)) 526 [(0, vR (some z.2.1)), (1, vI (nI e))] [] σ E 1) → ml_V z mX6_look (d, 1, (fun v σ' _ => v = none ∧ ∃ t, jt σ (σ.2 41) e ks outs = .inr t ∧ σ' = ml_sa σ 41 e t), (fun kd pl σ' => jt σ (σ.2 41) e ks outs = .inl kd ∧ pl = σ.1 42 ∧ σ' = σ)) 523 [(0, vR (some z.2.1)), (1, vI (nI e))] [vI g, vR (some z.2.1)] σ E 1 := fun E g h0 h1 =>
    mblook_523 (X6_type_C (Nat.le_refl 5)) (by show _ ≤ d; omega) (Nat.le_refl 1) (ml_kr0 fun σ' ⟨hg, hσ⟩ => by subst hσ; exact h1 _ hg) (fun kd pl σ' ⟨g1, g2, g3, g4⟩ => ⟨by rw [h0 g1, g2], g3, g4⟩)
  have tc562 : ∀ E (g : Int32), (g = 0 → jt σ (σ.2 41) e ks outs = .inl 4) → (∀ E, g ≠ 0 → ml_V z mX6_look (d, 1, (fun v σ' _ => v = none ∧ ∃ t, jt σ (σ.2 41) e ks outs = .inr t ∧ σ' = ml_sa σ 41 e t), (fun kd pl σ' => jt σ (σ.2 41) e ks outs = .inl kd ∧ pl = σ.1 42 ∧ σ' = σ)) 565 [(0, vR (some z.2.1)), (1, vI (nI e))] [] σ E 1) → ml_V z mX6_look (d, 1, (fun v σ' _ => v = none ∧ ∃ t, jt σ (σ.2 41) e ks outs = .inr t ∧ σ' = ml_sa σ 41 e t), (fun kd pl σ' => jt σ (σ.2 41) e ks outs = .inl kd ∧ pl = σ.1 42 ∧ σ' = σ)) 562 [(0, vR (some z.2.1)), (1, vI (nI e))] [vI g, vR (some z.2.1)] σ E 1 := fun E g h0 h1 =>
    mblook_562 (X6_type_C (Nat.le_refl 5)) (by show _ ≤ d; omega) (Nat.le_refl 1) (ml_kr0 fun σ' ⟨hg, hσ⟩ => by subst hσ; exact h1 _ hg) (fun kd pl σ' ⟨g1, g2, g3, g4⟩ => ⟨by rw [h0 g1, g2], g3, g4⟩)
  have tc601 : ∀ E (g : Int32), (g = 0 → jt σ (σ.2 41) e ks outs = .inl 4) → (∀ E, g ≠ 0 → ml_V z mX6_look (d, 1, (fun v σ' _ => v = none ∧ ∃ t, jt σ (σ.2 41) e ks outs = .inr t ∧ σ' = ml_sa σ 41 e t), (fun kd pl σ' => jt σ (σ.2 41) e ks outs = .inl kd ∧ pl = σ.1 42 ∧ σ' = σ)) 604 [(0, vR (some z.2.1)), (1, vI (nI e))] [] σ E 1) → ml_V z mX6_look (d, 1, (fun v σ' _ => v = none ∧ ∃ t, jt σ (σ.2 41) e ks outs = .inr t ∧ σ' = ml_sa σ 41 e t), (fun kd pl σ' => jt σ (σ.2 41) e ks outs = .inl kd ∧ pl = σ.1 42 ∧ σ' = σ)) 601 [(0, vR (some z.2.1)), (1, vI (nI e))] [vI g, vR (some z.2.1)] σ E 1 := fun E g h0 h1 =>
    mblook_601 (X6_type_C (Nat.le_refl 5)) (by show _ ≤ d; omega) (Nat.le_refl 1) (ml_kr0 fun σ' ⟨hg, hσ⟩ => by subst hσ; exact h1 _ hg) (fun kd pl σ' ⟨g1, g2, g3, g4⟩ => ⟨by rw [h0 g1, g2], g3, g4⟩)
  have tc630 : ∀ E (g : Int32), (g = 0 → jt σ (σ.2 41) e ks outs = .inl 4) → (∀ E, g ≠ 0 → ml_V z mX6_look (d, 1, (fun v σ' _ => v = none ∧ ∃ t, jt σ (σ.2 41) e ks outs = .inr t ∧ σ' = ml_sa σ 41 e t), (fun kd pl σ' => jt σ (σ.2 41) e ks outs = .inl kd ∧ pl = σ.1 42 ∧ σ' = σ)) 633 [(0, vR (some z.2.1)), (1, vI (nI e))] [] σ E 1) → ml_V z mX6_look (d, 1, (fun v σ' _ => v = none ∧ ∃ t, jt σ (σ.2 41) e ks outs = .inr t ∧ σ' = ml_sa σ 41 e t), (fun kd pl σ' => jt σ (σ.2 41) e ks outs = .inl kd ∧ pl = σ.1 42 ∧ σ' = σ)) 630 [(0, vR (some z.2.1)), (1, vI (nI e))] [vI g, vR (some z.2.1)] σ E 1 := fun E g h0 h1 =>
    mblook_630 (X6_type_C (Nat.le_refl 5)) (by show _ ≤ d; omega) (Nat.le_refl 1) (ml_kr0 fun σ' ⟨hg, hσ⟩ => by subst hσ; exact h1 _ hg) (fun kd pl σ' ⟨g1, g2, g3, g4⟩ => ⟨by rw [h0 g1, g2], g3, g4⟩)
  have tc442 : ∀ E (g : Int32) (x4 : Int32), (g = 0 → jt σ (σ.2 41) e ks outs = .inl 4) → (∀ E, g ≠ 0 → ml_V z mX6_look (d, 1, (fun v σ' _ => v = none ∧ ∃ t, jt σ (σ.2 41) e ks outs = .inr t ∧ σ' = ml_sa σ 41 e t), (fun kd pl σ' => jt σ (σ.2 41) e ks outs = .inl kd ∧ pl = σ.1 42 ∧ σ' = σ)) 445 [(0, vR (some z.2.1)), (1, vI (nI e)), (4, vI x4)] [] σ E 1) → ml_V z mX6_look (d, 1, (fun v σ' _ => v = none ∧ ∃ t, jt σ (σ.2 41) e ks outs = .inr t ∧ σ' = ml_sa σ 41 e t), (fun kd pl σ' => jt σ (σ.2 41) e ks outs = .inl kd ∧ pl = σ.1 42 ∧ σ' = σ)) 442 [(0, vR (some z.2.1)), (1, vI (nI e)), (4, vI x4)] [vI g, vR (some z.2.1)] σ E 1 := fun E g x4 h0 h1 =>
    mblook_442 (X6_type_C (Nat.le_refl 5)) (by show _ ≤ d; omega) (Nat.le_refl 1) (ml_kr0 fun σ' ⟨hg, hσ⟩ => by subst hσ; exact h1 _ hg) (fun kd pl σ' ⟨g1, g2, g3, g4⟩ => ⟨by rw [h0 g1, g2], g3, g4⟩)
  have tc400 : ∀ E (g : Int32) (x5 : Int32), (g = 0 → jt σ (σ.2 41) e ks outs = .inl 4) → (∀ E, g ≠ 0 → ml_V z mX6_look (d, 1, (fun v σ' _ => v = none ∧ ∃ t, jt σ (σ.2 41) e ks outs = .inr t ∧ σ' = ml_sa σ 41 e t), (fun kd pl σ' => jt σ (σ.2 41) e ks outs = .inl kd ∧ pl = σ.1 42 ∧ σ' = σ)) 403 [(0, vR (some z.2.1)), (1, vI (nI e)), (5, vI x5)] [] σ E 1) → ml_V z mX6_look (d, 1, (fun v σ' _ => v = none ∧ ∃ t, jt σ (σ.2 41) e ks outs = .inr t ∧ σ' = ml_sa σ 41 e t), (fun kd pl σ' => jt σ (σ.2 41) e ks outs = .inl kd ∧ pl = σ.1 42 ∧ σ' = σ)) 400 [(0, vR (some z.2.1)), (1, vI (nI e)), (5, vI x5)] [vI g, vR (some z.2.1)] σ E 1 := fun E g x5 h0 h1 =>
    mblook_400 (X6_type_C (Nat.le_refl 5)) (by show _ ≤ d; omega) (Nat.le_refl 1) (ml_kr0 fun σ' ⟨hg, hσ⟩ => by subst hσ; exact h1 _ hg) (fun kd pl σ' ⟨g1, g2, g3, g4⟩ => ⟨by rw [h0 g1, g2], g3, g4⟩)
  refine mblook_0 hi ?_
  rw [hce, show (0 : Int32) = nI 0 from rfl]
  refine look_n_V ks _ 0 _ hch (fun k hk => by have := (hm k hk).2; omega) (fun E => ?_)
  rw [Nat.zero_add]
  have at54 : ∀ E x5, (∀ k0 l, ks = k0 :: l → x5 = σ.2 35 k0) → ml_V z mX6_look (d, 1, (fun v σ' _ => v = none ∧ ∃ t, jt σ (σ.2 41) e ks outs = .inr t ∧ σ' = ml_sa σ 41 e t), (fun kd pl σ' => jt σ (σ.2 41) e ks outs = .inl kd ∧ pl = σ.1 42 ∧ σ' = σ)) 54 [(0, vR (some z.2.1)), (1, vI (nI e)), (2, vI (nI outs)), (3, vI (nI ks.length)), (4, vI (σ.2 34 e))] [vI x5] σ E 1 := by
    intro E x5 hx5
    refine mblook_54 hi (fun q3 => ?_) (fun q3 => ?_)
    · rw [hce] at q3
      have one : ∀ i : Int32, σ.2 32 e = i → i ≠ 3 → ks ≠ [] → ∃ k0 l, ks = k0 :: l ∧ σ.2 34 e = nI k0 ∧ x5 = σ.2 35 k0 ∧ k0 < e ∧ (σ.2 41 k0 = 0 ∨ σ.2 41 k0 = 1) := by
        intro i _ _ h0
        obtain ⟨k0, l, e1⟩ := List.exists_cons_of_ne_nil h0
        have e2 := hch
        rw [e1] at e2
        have hk := hm k0 (by rw [e1]; exact List.mem_cons_self)
        exact ⟨k0, l, e1, e2.1, hx5 k0 l e1, hk.2, hA k0 hk.2 hk.1⟩
      have two : ks.length = 2 → ∃ k0 k1, ks = [k0, k1] ∧ σ.2 34 e = nI k0 ∧ x5 = nI k1 ∧ k0 < e ∧ k1 < e ∧ (σ.2 41 k0 = 0 ∨ σ.2 41 k0 = 1) ∧ (σ.2 41 k1 = 0 ∨ σ.2 41 k1 = 1) := by
        intro h2
        match ks, h2, hch, hm, hx5 with
        | [k0, k1], _, hch, hm, hx5 =>
          have hk := hm k0 (by simp)
          have hk1 := hm k1 (by simp)
          exact ⟨k0, k1, rfl, hch.1, (hx5 k0 _ rfl).trans hch.2.1, hk.2, hk1.2, hA k0 hk.2 hk.1, hA k1 hk1.2 hk1.1⟩
      have jn : ∀ (i : Int32), σ.2 32 e = i → jt σ (σ.2 41) e ks outs = jt σ (σ.2 41) e ks outs := fun _ _ => rfl
      have len : ∀ i : Int32, σ.2 32 e = i → (i = 0 ∨ i = 1 ∨ i = 2 → ks = []) ∧ (i = 4 → ks.length = 3) ∧ (5 ≤ i ∧ i ≤ 21 → ks.length = 2) ∧ (22 ≤ i ∧ i ≤ 26 → ks.length = 1) ∧ (i = 0 ∨ i = 1 ∨ i = 2 ∨ i = 3 ∨ i = 4 ∨ (5 ≤ i ∧ i ≤ 21) ∨ (22 ≤ i ∧ i ≤ 26)) := by
        intro i hi
        unfold pw_s at hws
        rw [hi] at hws
        rcases hws with ⟨a, b⟩ | ⟨a, b, -⟩ | ⟨a, b, -⟩ | ⟨a, b⟩ | ⟨a, b⟩ | ⟨a, a2, b⟩ | ⟨a, a2, b⟩ | ⟨a, b, -⟩
        · subst a; exact ⟨fun _ => List.length_eq_zero_iff.1 b, fun u => absurd u (by decide), fun u => absurd u (by decide), fun u => absurd u (by decide), Or.inl rfl⟩
        · subst a; exact ⟨fun _ => List.length_eq_zero_iff.1 b, fun u => absurd u (by decide), fun u => absurd u (by decide), fun u => absurd u (by decide), Or.inr (Or.inl rfl)⟩
        · subst a; exact ⟨fun _ => List.length_eq_zero_iff.1 b, fun u => absurd u (by decide), fun u => absurd u (by decide), fun u => absurd u (by decide), Or.inr (Or.inr (Or.inl rfl))⟩
        · subst a; exact absurd hi q3
        · subst a; exact ⟨fun u => absurd u (by decide), fun _ => b, fun u => absurd u (by decide), fun u => absurd u (by decide), Or.inr (Or.inr (Or.inr (Or.inr (Or.inl rfl))))⟩
        · refine ⟨fun u => ?_, fun u => ?_, fun _ => b, fun u => absurd (Int32.le_trans u.1 a2) (by decide), Or.inr (Or.inr (Or.inr (Or.inr (Or.inr (Or.inl ⟨a, a2⟩)))))⟩
          · rcases u with u | u | u <;> (rw [u] at a; exact absurd a (by decide))
          · rw [u] at a; exact absurd a (by decide)
        · refine ⟨fun u => ?_, fun u => ?_, fun u => absurd (Int32.le_trans a u.2) (by decide), fun _ => b, Or.inr (Or.inr (Or.inr (Or.inr (Or.inr (Or.inr ⟨a, Int32.le_trans a2 (by decide)⟩)))))⟩
          · rcases u with u | u | u <;> (rw [u] at a; exact absurd a (by decide))
          · rw [u] at a; exact absurd a (by decide)
        · subst a; exact ⟨fun u => absurd u (by decide), fun u => absurd u (by decide), fun u => absurd u (by decide), fun _ => b, Or.inr (Or.inr (Or.inr (Or.inr (Or.inr (Or.inr ⟨by decide, by decide⟩)))))⟩
      have g5 : ∀ E (i : Int32), σ.2 32 e = i → (i = 5 ∨ i = 6) → ml_V z mX6_look (d, 1, (fun v σ' _ => v = none ∧ ∃ t, jt σ (σ.2 41) e ks outs = .inr t ∧ σ' = ml_sa σ 41 e t), (fun kd pl σ' => jt σ (σ.2 41) e ks outs = .inl kd ∧ pl = σ.1 42 ∧ σ' = σ)) 419 [(0, vR (some z.2.1)), (1, vI (nI e)), (4, vI (σ.2 34 e)), (5, vI x5)] [] σ E 1 := by
        intro E i hs hi9
        obtain ⟨k0, k1, e1, e2, e3, e4, e5, a0, a1⟩ := two ((len i hs).2.2.1 (by rcases hi9 with u | u <;> subst u <;> exact ⟨by decide, by decide⟩))
        rw [e2, e3]
        have c0 : (nI k0).toNatClampNeg = k0 := nI_clamp (by omega)
        have c1 : (nI k1).toNatClampNeg = k1 := nI_clamp (by omega)
        have i0 : vp_in (nI k0) 66000 := vp_in_nI (by omega) (by decide)
        have i1 : vp_in (nI k1) 66000 := vp_in_nI (by omega) (by decide)
        have ej : jt σ (σ.2 41) e ks outs = jt_ok (decide (σ.2 41 k0 = σ.2 41 k1)) (σ.2 41 k0) := by unfold jt; rw [hs]; rcases hi9 with u | u <;> subst u <;> simp [e1]
        refine mblook_419 i0 i1 (fun q => mblook_441 (tc442 _ _ _ (fun _ => ?_) (fun E u => absurd rfl u))) (fun q => mblook_437 (tc442 _ _ _ (fun u => absurd u (by decide)) (fun E _ => ?_)))
        · rw [c0, c1] at q; rw [ej, jt_ok, if_neg (by simp [q])]
        · rw [c0, c1] at q
          refine mblook_445 i0 hi (by rw [c0]; exact a0) ?_
          rw [c0, hce]
          exact fin _ _ (by rw [ej, jt_ok, if_pos (by simp [q])])
      have g7 : ∀ E (i : Int32), σ.2 32 e = i → (i = 7 ∨ i = 8 ∨ i = 9 ∨ i = 10) → ml_V z mX6_look (d, 1, (fun v σ' _ => v = none ∧ ∃ t, jt σ (σ.2 41) e ks outs = .inr t ∧ σ' = ml_sa σ 41 e t), (fun kd pl σ' => jt σ (σ.2 41) e ks outs = .inl kd ∧ pl = σ.1 42 ∧ σ' = σ)) 461 [(0, vR (some z.2.1)), (1, vI (nI e)), (4, vI (σ.2 34 e)), (5, vI x5)] [] σ E 1 := by
        intro E i hs hi9
        obtain ⟨k0, k1, e1, e2, e3, e4, e5, a0, a1⟩ := two ((len i hs).2.2.1 (by rcases hi9 with u | u | u | u <;> subst u <;> exact ⟨by decide, by decide⟩))
        rw [e2, e3]
        have c0 : (nI k0).toNatClampNeg = k0 := nI_clamp (by omega)
        have c1 : (nI k1).toNatClampNeg = k1 := nI_clamp (by omega)
        have i0 : vp_in (nI k0) 66000 := vp_in_nI (by omega) (by decide)
        have i1 : vp_in (nI k1) 66000 := vp_in_nI (by omega) (by decide)
        have ej : jt σ (σ.2 41) e ks outs = jt_ok (decide (σ.2 41 k0 ≠ 0) && decide (σ.2 41 k1 ≠ 0)) 1 := by unfold jt; rw [hs]; rcases hi9 with u | u | u | u <;> subst u <;> simp [e1]
        refine mblook_461 i0 (fun q => mblook_486 (tc487 _ _ (fun _ => ?_) (fun E u => absurd rfl u))) (fun q => mblook_472 i1 (fun q2 => mblook_486 (tc487 _ _ (fun _ => ?_) (fun E u => absurd rfl u))) (fun q2 => mblook_482 (tc487 _ _ (fun u => absurd u (by decide)) (fun E _ => ?_))))
        · rw [c0] at q; rw [ej, jt_ok, if_neg (by simp [q])]
        · rw [c1] at q2; rw [ej, jt_ok, if_neg (by simp [q2])]
        · rw [c0] at q; rw [c1] at q2
          refine mblook_490 hi ?_
          rw [hce]
          exact fin _ _ (by rw [ej, jt_ok, if_pos (by simp [q, q2])])
      have g11 : ∀ E (i : Int32), σ.2 32 e = i → (i = 11 ∨ i = 12) → ml_V z mX6_look (d, 1, (fun v σ' _ => v = none ∧ ∃ t, jt σ (σ.2 41) e ks outs = .inr t ∧ σ' = ml_sa σ 41 e t), (fun kd pl σ' => jt σ (σ.2 41) e ks outs = .inl kd ∧ pl = σ.1 42 ∧ σ' = σ)) 500 [(0, vR (some z.2.1)), (1, vI (nI e)), (4, vI (σ.2 34 e)), (5, vI x5)] [] σ E 1 := by
        intro E i hs hi9
        obtain ⟨k0, k1, e1, e2, e3, e4, e5, a0, a1⟩ := two ((len i hs).2.2.1 (by rcases hi9 with u | u <;> subst u <;> exact ⟨by decide, by decide⟩))
        rw [e2, e3]
        have c0 : (nI k0).toNatClampNeg = k0 := nI_clamp (by omega)
        have c1 : (nI k1).toNatClampNeg = k1 := nI_clamp (by omega)
        have i0 : vp_in (nI k0) 66000 := vp_in_nI (by omega) (by decide)
        have i1 : vp_in (nI k1) 66000 := vp_in_nI (by omega) (by decide)
        have ej : jt σ (σ.2 41) e ks outs = jt_ok (decide (σ.2 41 k0 = σ.2 41 k1)) 1 := by unfold jt; rw [hs]; rcases hi9 with u | u <;> subst u <;> simp [e1]
        refine mblook_500 i0 i1 (fun q => mblook_522 (tc523 _ _ (fun _ => ?_) (fun E u => absurd rfl u))) (fun q => mblook_518 (tc523 _ _ (fun u => absurd u (by decide)) (fun E _ => ?_)))
        · rw [c0, c1] at q; rw [ej, jt_ok, if_neg (by simp [q])]
        · rw [c0, c1] at q
          refine mblook_526 hi ?_
          rw [hce]
          exact fin _ _ (by rw [ej, jt_ok, if_pos (by simp [q])])
      have g13 : ∀ E (i : Int32), σ.2 32 e = i → (i = 13 ∨ i = 14 ∨ i = 15 ∨ i = 16) → ml_V z mX6_look (d, 1, (fun v σ' _ => v = none ∧ ∃ t, jt σ (σ.2 41) e ks outs = .inr t ∧ σ' = ml_sa σ 41 e t), (fun kd pl σ' => jt σ (σ.2 41) e ks outs = .inl kd ∧ pl = σ.1 42 ∧ σ' = σ)) 536 [(0, vR (some z.2.1)), (1, vI (nI e)), (4, vI (σ.2 34 e)), (5, vI x5)] [] σ E 1 := by
        intro E i hs hi9
        obtain ⟨k0, k1, e1, e2, e3, e4, e5, a0, a1⟩ := two ((len i hs).2.2.1 (by rcases hi9 with u | u | u | u <;> subst u <;> exact ⟨by decide, by decide⟩))
        rw [e2, e3]
        have c0 : (nI k0).toNatClampNeg = k0 := nI_clamp (by omega)
        have c1 : (nI k1).toNatClampNeg = k1 := nI_clamp (by omega)
        have i0 : vp_in (nI k0) 66000 := vp_in_nI (by omega) (by decide)
        have i1 : vp_in (nI k1) 66000 := vp_in_nI (by omega) (by decide)
        have ej : jt σ (σ.2 41) e ks outs = jt_ok (decide (σ.2 41 k0 = 0) && decide (σ.2 41 k1 = 0)) 1 := by unfold jt; rw [hs]; rcases hi9 with u | u | u | u <;> subst u <;> simp [e1]
        refine mblook_536 i0 (fun q => mblook_561 (tc562 _ _ (fun _ => ?_) (fun E u => absurd rfl u))) (fun q => mblook_547 i1 (fun q2 => mblook_561 (tc562 _ _ (fun _ => ?_) (fun E u => absurd rfl u))) (fun q2 => mblook_557 (tc562 _ _ (fun u => absurd u (by decide)) (fun E _ => ?_))))
        · rw [c0] at q; rw [ej, jt_ok, if_neg (by simp [q])]
        · rw [c1] at q2; rw [ej, jt_ok, if_neg (by simp [q2])]
        · rw [c0] at q; rw [c1] at q2
          refine mblook_565 hi ?_
          rw [hce]
          exact fin _ _ (by rw [ej, jt_ok, if_pos (by simp [q, q2])])
      have g17 : ∀ E (i : Int32), σ.2 32 e = i → (i = 17 ∨ i = 18 ∨ i = 19 ∨ i = 20 ∨ i = 21) → ml_V z mX6_look (d, 1, (fun v σ' _ => v = none ∧ ∃ t, jt σ (σ.2 41) e ks outs = .inr t ∧ σ' = ml_sa σ 41 e t), (fun kd pl σ' => jt σ (σ.2 41) e ks outs = .inl kd ∧ pl = σ.1 42 ∧ σ' = σ)) 575 [(0, vR (some z.2.1)), (1, vI (nI e)), (4, vI (σ.2 34 e)), (5, vI x5)] [] σ E 1 := by
        intro E i hs hi9
        obtain ⟨k0, k1, e1, e2, e3, e4, e5, a0, a1⟩ := two ((len i hs).2.2.1 (by rcases hi9 with u | u | u | u | u <;> subst u <;> exact ⟨by decide, by decide⟩))
        rw [e2, e3]
        have c0 : (nI k0).toNatClampNeg = k0 := nI_clamp (by omega)
        have c1 : (nI k1).toNatClampNeg = k1 := nI_clamp (by omega)
        have i0 : vp_in (nI k0) 66000 := vp_in_nI (by omega) (by decide)
        have i1 : vp_in (nI k1) 66000 := vp_in_nI (by omega) (by decide)
        have ej : jt σ (σ.2 41) e ks outs = jt_ok (decide (σ.2 41 k0 = 0) && decide (σ.2 41 k1 = 0)) 0 := by unfold jt; rw [hs]; rcases hi9 with u | u | u | u | u <;> subst u <;> simp [e1]
        refine mblook_575 i0 (fun q => mblook_600 (tc601 _ _ (fun _ => ?_) (fun E u => absurd rfl u))) (fun q => mblook_586 i1 (fun q2 => mblook_600 (tc601 _ _ (fun _ => ?_) (fun E u => absurd rfl u))) (fun q2 => mblook_596 (tc601 _ _ (fun u => absurd u (by decide)) (fun E _ => ?_))))
        · rw [c0] at q; rw [ej, jt_ok, if_neg (by simp [q])]
        · rw [c1] at q2; rw [ej, jt_ok, if_neg (by simp [q2])]
        · rw [c0] at q; rw [c1] at q2
          refine mblook_604 hi ?_
          rw [hce]
          exact fin _ _ (by rw [ej, jt_ok, if_pos (by simp [q, q2])])
      have g22 : ∀ E (i : Int32), σ.2 32 e = i → (i = 22) → ml_V z mX6_look (d, 1, (fun v σ' _ => v = none ∧ ∃ t, jt σ (σ.2 41) e ks outs = .inr t ∧ σ' = ml_sa σ 41 e t), (fun kd pl σ' => jt σ (σ.2 41) e ks outs = .inl kd ∧ pl = σ.1 42 ∧ σ' = σ)) 614 [(0, vR (some z.2.1)), (1, vI (nI e)), (4, vI (σ.2 34 e))] [] σ E 1 := by
        intro E i hs hi9
        obtain ⟨k0, l, e1, e2, e3, e4, a0⟩ := one i hs (by intro u; rw [u] at hi9; revert hi9; decide) (by intro u; have h9 := (len i hs).2.2.2.1 (by subst hi9; exact ⟨by decide, by decide⟩); rw [u] at h9; exact absurd h9 (by decide))
        rw [e2]
        have c0 : (nI k0).toNatClampNeg = k0 := nI_clamp (by omega)
        have i0 : vp_in (nI k0) 66000 := vp_in_nI (by omega) (by decide)
        have ej : jt σ (σ.2 41) e ks outs = jt_ok (decide (σ.2 41 k0 = 0)) 0 := by unfold jt; rw [hs]; subst hi9; simp [e1]
        refine mblook_614 i0 (fun q => mblook_629 (tc630 _ _ (fun _ => ?_) (fun E u => absurd rfl u))) (fun q => mblook_625 (tc630 _ _ (fun u => absurd u (by decide)) (fun E _ => ?_)))
        · rw [c0] at q; rw [ej, jt_ok, if_neg (by simp [q])]
        · rw [c0] at q
          refine mblook_633 hi ?_
          rw [hce]
          exact fin _ _ (by rw [ej, jt_ok, if_pos (by simp [q])])
      have g23 : ∀ E (i : Int32), σ.2 32 e = i → (i = 23) → ml_V z mX6_look (d, 1, (fun v σ' _ => v = none ∧ ∃ t, jt σ (σ.2 41) e ks outs = .inr t ∧ σ' = ml_sa σ 41 e t), (fun kd pl σ' => jt σ (σ.2 41) e ks outs = .inl kd ∧ pl = σ.1 42 ∧ σ' = σ)) 643 [(0, vR (some z.2.1)), (1, vI (nI e)), (4, vI (σ.2 34 e))] [] σ E 1 := by
        intro E i hs hi9
        obtain ⟨k0, l, e1, e2, e3, e4, a0⟩ := one i hs (by intro u; rw [u] at hi9; revert hi9; decide) (by intro u; have h9 := (len i hs).2.2.2.1 (by subst hi9; exact ⟨by decide, by decide⟩); rw [u] at h9; exact absurd h9 (by decide))
        rw [e2]
        have c0 : (nI k0).toNatClampNeg = k0 := nI_clamp (by omega)
        have i0 : vp_in (nI k0) 66000 := vp_in_nI (by omega) (by decide)
        have ej : jt σ (σ.2 41) e ks outs = jt_ok (decide (σ.2 41 k0 ≠ 0)) 1 := by unfold jt; rw [hs]; subst hi9; simp [e1]
        refine mblook_643 i0 (X6_type_C (Nat.le_refl 5)) (by show _ ≤ d; omega) (Nat.le_refl 1) (ml_kr0 fun σ' ⟨hg, hσ⟩ => ?_) (fun kd pl σ' ⟨g1, g2, g3, g4⟩ => ⟨?_, g3, g4⟩)
        · subst hσ
          rw [c0] at hg
          refine mblook_654 hi ?_
          rw [hce]
          exact fin _ _ (by rw [ej, jt_ok, if_pos (by simp [hg])])
        · rw [c0] at g1
          rw [ej, jt_ok, if_neg (by simp [g1]), g2]
      have gd : ∀ E (i : Int32), σ.2 32 e = i → (i = 24 ∨ i = 25 ∨ i = 26) → ml_V z mX6_look (d, 1, (fun v σ' _ => v = none ∧ ∃ t, jt σ (σ.2 41) e ks outs = .inr t ∧ σ' = ml_sa σ 41 e t), (fun kd pl σ' => jt σ (σ.2 41) e ks outs = .inl kd ∧ pl = σ.1 42 ∧ σ' = σ)) 664 [(0, vR (some z.2.1)), (1, vI (nI e)), (4, vI (σ.2 34 e))] [] σ E 1 := by
        intro E i hs hi9
        obtain ⟨k0, l, e1, e2, e3, e4, a0⟩ := one i hs (by intro u; rw [u] at hi9; revert hi9; decide) (by intro u; have h9 := (len i hs).2.2.2.1 (by rcases hi9 with u | u | u <;> subst u <;> exact ⟨by decide, by decide⟩); rw [u] at h9; exact absurd h9 (by decide))
        rw [e2]
        have c0 : (nI k0).toNatClampNeg = k0 := nI_clamp (by omega)
        have i0 : vp_in (nI k0) 66000 := vp_in_nI (by omega) (by decide)
        refine mblook_664 i0 hi (by rw [c0]; exact a0) ?_
        rw [c0, hce]
        refine fin _ _ ?_
        unfold jt; rw [hs]; rcases hi9 with u | u | u <;> subst u <;> simp [e1]
      have g4 : ∀ E (i : Int32), σ.2 32 e = i → (i = 4) → ml_V z mX6_look (d, 1, (fun v σ' _ => v = none ∧ ∃ t, jt σ (σ.2 41) e ks outs = .inr t ∧ σ' = ml_sa σ 41 e t), (fun kd pl σ' => jt σ (σ.2 41) e ks outs = .inl kd ∧ pl = σ.1 42 ∧ σ' = σ)) 362 [(0, vR (some z.2.1)), (1, vI (nI e)), (4, vI (σ.2 34 e)), (5, vI x5)] [] σ E 1 := by
        intro E i hs hi9
        have h3 := (len i hs).2.1 hi9
        have ⟨k0, k1, k2, e1⟩ : ∃ k0 k1 k2, ks = [k0, k1, k2] := by
          match ks, h3 with
          | [k0, k1, k2], _ => exact ⟨k0, k1, k2, rfl⟩
        rw [e1] at hch
        have m0 := hm k0 (by rw [e1]; simp)
        have m1 := hm k1 (by rw [e1]; simp)
        have m2 := hm k2 (by rw [e1]; simp)
        have e5 : x5 = nI k1 := (hx5 k0 _ e1).trans hch.2.1
        have e6 : σ.2 35 k1 = nI k2 := hch.2.2.1
        rw [hch.1, e5]
        have c0 : (nI k0).toNatClampNeg = k0 := nI_clamp (by omega)
        have c1 : (nI k1).toNatClampNeg = k1 := nI_clamp (by omega)
        have c2 : (nI k2).toNatClampNeg = k2 := nI_clamp (by omega)
        have ej : jt σ (σ.2 41) e ks outs = jt_ok (decide (σ.2 41 k0 ≠ 0) && decide (σ.2 41 k1 = σ.2 41 k2)) (σ.2 41 k1) := by unfold jt; rw [hs]; subst hi9; simp [e1]
        refine mblook_362 (vp_in_nI (by omega) (by decide)) (fun q => mblook_399 (tc400 _ _ _ (fun _ => ?_) (fun E u => absurd rfl u))) (fun q => mblook_373 (vp_in_nI (by omega) (by decide)) (by rw [c1, e6]; exact vp_in_nI (by omega) (by decide)) (fun q2 => mblook_399 (tc400 _ _ _ (fun _ => ?_) (fun E u => absurd rfl u))) (fun q2 => mblook_395 (tc400 _ _ _ (fun u => absurd u (by decide)) (fun E _ => ?_))))
        · rw [c0] at q; rw [ej, jt_ok, if_neg (by simp [q])]
        · rw [c1, e6, c2] at q2; rw [ej, jt_ok, if_neg (by simp [q2])]
        · rw [c0] at q; rw [c1, e6, c2] at q2
          refine mblook_403 (vp_in_nI (by omega) (by decide)) hi (by rw [c1]; exact hA k1 m1.2 m1.1) ?_
          rw [c1, hce]
          exact fin _ _ (by rw [ej, jt_ok, if_pos (by simp [q, q2])])
      refine mblook_195 hi (fun h => mblook_312 hi (by rw [hce]; exact fin _ _ (by unfold jt; rw [hce] at h; rw [h]; rfl))) (fun h => mblook_322 hi (by rw [hce]; exact fin _ _ (by unfold jt; rw [hce] at h; rw [h]; rfl))) (fun h => ?_) (fun h => absurd (by rw [hce] at h; exact h) q3) (fun h => g4 _ 4 (by rw [hce] at h; exact h) (rfl)) (fun h => g5 _ 5 (by rw [hce] at h; exact h) (Or.inl rfl)) (fun h => g5 _ 6 (by rw [hce] at h; exact h) ((Or.inr rfl))) (fun h => g7 _ 7 (by rw [hce] at h; exact h) (Or.inl rfl)) (fun h => g7 _ 8 (by rw [hce] at h; exact h) ((Or.inr (Or.inl rfl)))) (fun h => g7 _ 9 (by rw [hce] at h; exact h) ((Or.inr (Or.inr (Or.inl rfl))))) (fun h => g7 _ 10 (by rw [hce] at h; exact h) ((Or.inr (Or.inr (Or.inr rfl))))) (fun h => g11 _ 11 (by rw [hce] at h; exact h) (Or.inl rfl)) (fun h => g11 _ 12 (by rw [hce] at h; exact h) ((Or.inr rfl))) (fun h => g13 _ 13 (by rw [hce] at h; exact h) (Or.inl rfl)) (fun h => g13 _ 14 (by rw [hce] at h; exact h) ((Or.inr (Or.inl rfl)))) (fun h => g13 _ 15 (by rw [hce] at h; exact h) ((Or.inr (Or.inr (Or.inl rfl))))) (fun h => g13 _ 16 (by rw [hce] at h; exact h) ((Or.inr (Or.inr (Or.inr rfl))))) (fun h => g17 _ 17 (by rw [hce] at h; exact h) (Or.inl rfl)) (fun h => g17 _ 18 (by rw [hce] at h; exact h) ((Or.inr (Or.inl rfl)))) (fun h => g17 _ 19 (by rw [hce] at h; exact h) ((Or.inr (Or.inr (Or.inl rfl))))) (fun h => g17 _ 20 (by rw [hce] at h; exact h) ((Or.inr (Or.inr (Or.inr (Or.inl rfl)))))) (fun h => g17 _ 21 (by rw [hce] at h; exact h) ((Or.inr (Or.inr (Or.inr (Or.inr rfl)))))) (fun h => g22 _ 22 (by rw [hce] at h; exact h) (rfl)) (fun h => g23 _ 23 (by rw [hce] at h; exact h) (rfl)) (fun n0 n1 n2 n3 n4 n5 n6 n7 n8 n9 n10 n11 n12 n13 n14 n15 n16 n17 n18 n19 n20 n21 n22 n23 => ?_)
      · rw [hce] at h
        have hws2 := hws
        unfold pw_s at hws2
        rw [h] at hws2
        obtain ⟨v, hv, e1⟩ : ∃ v, pr_a σ + v < pr_v σ ∧ σ.2 33 e = nI v := by
          rcases hws2 with ⟨a, b⟩ | ⟨a, b, -⟩ | ⟨a, b, v, hv, e1⟩ | ⟨a, b⟩ | ⟨a, b⟩ | ⟨a, a2, b⟩ | ⟨a, a2, b⟩ | ⟨a, b, -⟩
          · exact absurd a (by decide)
          · exact absurd a (by decide)
          · exact ⟨v, hv, e1⟩
          · exact absurd a (by decide)
          · exact absurd a (by decide)
          · exact absurd a (by decide)
          · exact absurd a (by decide)
          · exact absurd a (by decide)
        have ea : σ.2 12 (σ.1 18).toNatClampNeg + σ.2 33 e = nI (pr_a σ + v) := by rw [v1, nI_clamp (by omega), v5, e1, nI_add]
        refine mblook_332 (by rw [v1]; exact vp_in_nI (by omega) (by decide)) hi (by rw [hce, ea]; exact vp_in_nI (by omega) (by decide)) (by rw [hce, ea, nI_clamp (by omega)]; exact h01 _ hv) ?_
        rw [hce, ea, nI_clamp (by omega)]
        refine fin _ _ ?_
        unfold jt
        rw [h, e1, nI_clamp (by omega)]
        rfl
      · rw [hce] at n0 n1 n2 n3 n4 n5 n6 n7 n8 n9 n10 n11 n12 n13 n14 n15 n16 n17 n18 n19 n20 n21 n22 n23
        refine gd _ _ rfl ?_
        have hl := (len _ rfl).2.2.2.2
        rcases hl with u | u | u | u | u | u | u
        · exact absurd u n0
        · exact absurd u n1
        · exact absurd u n2
        · exact absurd u n3
        · exact absurd u n4
        · exact absurd (lk_range (σ.2 32 e) u) (by simp [n5, n6, n7, n8, n9, n10, n11, n12, n13, n14, n15, n16, n17, n18, n19, n20, n21])
        · have := lk_range2 (σ.2 32 e) u
          simp [n22, n23] at this
          exact this
    · rw [hce] at q3
      have hws2 := hws
      unfold pw_s at hws2
      rw [q3] at hws2
      obtain ⟨hl1, f, hf, e1⟩ : 1 ≤ ks.length ∧ ∃ f, f < pr_N σ ∧ σ.2 33 e = nI f := by
        rcases hws2 with ⟨a, b⟩ | ⟨a, b, -⟩ | ⟨a, b, -⟩ | ⟨a, b, f, hf, e1⟩ | ⟨a, b⟩ | ⟨a, a2, b⟩ | ⟨a, a2, b⟩ | ⟨a, b, -⟩
        · exact absurd a (by decide)
        · exact absurd a (by decide)
        · exact absurd a (by decide)
        · exact ⟨b, f, hf, e1⟩
        · exact absurd a (by decide)
        · exact absurd a (by decide)
        · exact absurd a (by decide)
        · exact absurd a (by decide)
      obtain ⟨b, i, o, f1, f2, f3, f4, f5⟩ := hnod f hf
      have hcf : (nI f).toNatClampNeg = f := nI_clamp (by omega)
      have hcb : (nI b).toNatClampNeg = b := nI_clamp (by omega)
      have hci : (nI i).toNatClampNeg = i := nI_clamp (by omega)
      have hco : (nI o).toNatClampNeg = o := nI_clamp (by omega)
      have ej : jt σ (σ.2 41) e ks outs = if ks.length = i ∧ outs = o then jt_ok (jt_all (σ.2 41) (σ.2 24) b ks) (σ.2 24 (b + i)) else .inl 5 := by unfold jt; rw [if_pos q3, e1, hcf, f1, f2, f3, hcb, hci, hco]
      have bad : ∀ E, ¬ (ks.length = i ∧ outs = o) → ml_V z mX6_look (d, 1, (fun v σ' _ => v = none ∧ ∃ t, jt σ (σ.2 41) e ks outs = .inr t ∧ σ' = ml_sa σ 41 e t), (fun kd pl σ' => jt σ (σ.2 41) e ks outs = .inl kd ∧ pl = σ.1 42 ∧ σ' = σ)) 96 [(0, vR (some z.2.1))] [] σ E 1 := by
        intro E hne
        refine mblook_96 (Nat.le_refl 1) (fun q1 => ?_)
        refine mblook_99 rfl (X23_init_C (Nat.le_refl 4)) (fun G g => g) (by show _ ≤ d; omega) (Nat.zero_le _) ?_
        exact mblook_108 rfl (fun G g => g.1) (fun G g => ⟨by rw [ej, if_neg hne, g.2.1], g.2.2, rfl⟩)
      refine mblook_66 hi (by rw [hce, e1]; exact vp_in_nI (by omega) (by decide)) (fun q => bad _ (fun u => q (by rw [hce, e1, hcf, f2, u.1]))) (fun q => ?_)
      rw [hce, e1, hcf, f2] at q
      have q1 : ks.length = i := (nI_eq (by omega) (by omega)).1 q
      rw [hce, e1]
      refine mblook_85 (vp_in_nI (by omega) (by decide)) (fun q => ?_) (fun q => bad _ (fun u => q (by rw [hcf, f3, u.2])))
      rw [hcf, f3] at q
      have q2 : outs = o := (nI_eq (by omega) (by omega)).1 q
      rw [if_pos ⟨q1, q2⟩] at ej
      refine mblook_109 (vp_in_nI (by omega) (by decide)) ?_
      rw [hcf, f1]
      have lp : ∀ (l : List Nat) (x : Int32) (j : Nat) (E : GH → Prop), md_ch (σ.2 35) x l → (∀ k ∈ l, k < e) → j + l.length ≤ b + i → (jt_all (σ.2 41) (σ.2 24) j l = jt_all (σ.2 41) (σ.2 24) b ks) → ml_V z mX6_look (d, 1, (fun v σ' _ => v = none ∧ ∃ t, jt σ (σ.2 41) e ks outs = .inr t ∧ σ' = ml_sa σ 41 e t), (fun kd pl σ' => jt σ (σ.2 41) e ks outs = .inl kd ∧ pl = σ.1 42 ∧ σ' = σ)) 122 [(0, vR (some z.2.1)), (1, vI (nI e)), (6, vI (nI f)), (7, vI (nI j)), (8, vI x)] [] σ E 1 := by
        intro l
        induction l with
        | nil =>
          intro x j E h _ _ hj
          have hx : x < 0 := h
          refine mblook_122 (fun _ => ?_) (fun u => absurd hx u)
          have ebi : σ.2 12 f + σ.2 13 f = nI (b + i) := by rw [f1, f2, nI_add]
          refine mblook_168 (vp_in_nI (by omega) (by decide)) (vp_in_nI (by omega) (by decide)) (by rw [hcf, ebi]; exact vp_in_nI (by omega) (by decide)) hi (by rw [hcf, ebi, nI_clamp (by omega)]; exact h01 _ (by omega)) (fun G => ⟨rfl, σ.2 24 (b + i), ?_, ?_⟩)
          · rw [ej, jt_ok, ← hj]
            rfl
          · rw [hcf, ebi, hce, nI_clamp (by omega)]
        | cons k l ih =>
          intro x j E h hk hj2 hj
          obtain ⟨rfl, h⟩ := h
          have hk0 := hk k List.mem_cons_self
          have hck : (nI k).toNatClampNeg = k := nI_clamp (by omega)
          simp only [List.length_cons] at hj2
          refine mblook_122 (fun q => absurd q (nI_pos (by omega))) (fun _ => ?_)
          have ty : ∀ E (g : Int32), (g = 0 → jt σ (σ.2 41) e ks outs = .inl 4) → (g ≠ 0 → jt_all (σ.2 41) (σ.2 24) (j + 1) l = jt_all (σ.2 41) (σ.2 24) b ks) → ml_V z mX6_look (d, 1, (fun v σ' _ => v = none ∧ ∃ t, jt σ (σ.2 41) e ks outs = .inr t ∧ σ' = ml_sa σ 41 e t), (fun kd pl σ' => jt σ (σ.2 41) e ks outs = .inl kd ∧ pl = σ.1 42 ∧ σ' = σ)) 153 [(0, vR (some z.2.1)), (1, vI (nI e)), (6, vI (nI f)), (7, vI (nI (j + 1))), (8, vI (nI k))] [vI g, vR (some z.2.1)] σ E 1 := by
            intro E g h0 h1
            refine mblook_153 (X6_type_C (Nat.le_refl 5)) (by show _ ≤ d; omega) (Nat.le_refl 1) (ml_kr0 fun σ' ⟨hg, hσ⟩ => ?_) (fun kd pl σ' ⟨g1, g2, g3, g4⟩ => ⟨by rw [h0 g1, g2], g3, g4⟩)
            subst hσ
            refine mblook_156 (vp_in_nI (by omega) (by decide)) ?_
            rw [hck]
            exact ih _ (j + 1) _ h (fun q hq => hk q (List.mem_cons_of_mem _ hq)) (by omega) (h1 hg)
          refine mblook_127 (vp_in_nI (by omega) (by decide)) (vp_in_nI (by omega) (by decide)) (fun q => mblook_152 ?_) (fun q => mblook_148 ?_)
          · rw [hck, nI_clamp (by omega)] at q
            rw [nI_1]
            refine ty _ _ (fun _ => ?_) (fun u => absurd rfl u)
            rw [ej, jt_ok, ← hj, jt_all, decide_eq_false q]
            rfl
          · rw [hck, nI_clamp (by omega)] at q
            rw [nI_1]
            refine ty _ _ (fun u => absurd u (by decide)) (fun _ => ?_)
            rw [← hj, jt_all, decide_eq_true q]
            rfl
      exact lp ks _ b _ hch (fun k hk => (hm k hk).2) (by omega) rfl
  refine mblook_30 hi (fun q => ?_) (fun q => ?_)
  · rw [hce] at q ⊢
    have h0 : ks ≠ [] := by
      intro u
      rw [u] at hch
      have h1 : σ.2 34 e < 0 := hch
      exact absurd h1 (Int32.not_lt.2 q)
    obtain ⟨k0, l, e1⟩ := List.exists_cons_of_ne_nil h0
    have e2 := hch
    rw [e1] at e2
    have hk := (hm k0 (by rw [e1]; exact List.mem_cons_self)).2
    have e3 : σ.2 34 e = nI k0 := e2.1
    refine mblook_47 (by rw [e3]; exact vp_in_nI (by omega) (by decide)) ?_
    refine at54 _ _ (fun k l h9 => ?_)
    rw [e1] at h9
    cases h9
    rw [e3, nI_clamp (by omega)]
  · rw [hce] at q ⊢
    refine mblook_43 (at54 _ _ (fun k l h9 => ?_))
    rw [h9] at hch
    have h1 : σ.2 34 e = nI k := hch.1
    rw [h1] at q
    exact absurd (nI_pos' (by have := (hm k (by rw [h9]; exact List.mem_cons_self)).2; omega)) q
end
