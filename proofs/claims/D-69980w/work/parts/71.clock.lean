/-! lookAtClock of the reference -/
set_option maxRecDepth 100000
/-- a clock: any, base, or a variable of the node and a sign -/
def jq (S : MS) (c : Int32) : Prop := c = -2 ∨ c = -1 ∨ ∃ w, w < 2 ^ 30 ∧ c = nI w ∧ pr_a S + w / 2 < pr_v S
theorem jq_v {n v : Nat} {S : MS} (hV : pe_V n S) (hv : pr_a S + v < pr_v S) : jq S (jc_v S v) := by
  obtain ⟨v1, v2, v3, v4, v5, v6, v7, v8, v9⟩ := hV.N
  rcases v9 (pr_a S + v) (by omega) hv with h | ⟨k, h1, h2, h3⟩
  · exact Or.inr (Or.inl h)
  · exact Or.inr (Or.inr ⟨k, h1, h2, by omega⟩)
theorem jq_neg {S : MS} {c : Int32} (h : jq S c) (h0 : 0 ≤ c) : ∃ w, w < 2 ^ 30 ∧ c = nI w ∧ pr_a S + w / 2 < pr_v S := by
  rcases h with rfl | rfl | h
  · exact absurd h0 (by decide)
  · exact absurd h0 (by decide)
  · exact h
theorem jc_two_ok {S : MS} {a b c : Int32} (ha : jq S a) (hb : jq S b) (h : jc_two a b = .inr c) : jq S c := by
  unfold jc_two at h
  split at h
  · cases h; exact hb
  · split at h
    · cases h; exact ha
    · cases h
theorem jc_all_ok {S : MS} {C : Nat → Int32} : ∀ (ks : List Nat) (a c : Int32), jq S a → (∀ k ∈ ks, jq S (C k)) → jc_all C a ks = .inr c → jq S c
  | [], a, c, ha, _, h => by cases h; exact ha
  | k :: ks, a, c, ha, hk, h => by
    unfold jc_all at h
    split at h
    · cases h
    · rename_i c2 e
      exact jc_all_ok ks c2 c (jc_two_ok ha (hk k List.mem_cons_self) e) (fun q hq => hk q (List.mem_cons_of_mem _ hq)) h
section
variable {z : MZ}
theorem lac_loop {d e : Nat} {σ : MS} (he : e < 5000) (hd : 6 ≤ d) (P : Option WV → MS → GH → Prop) (PX : Int32 → Int32 → MS → Prop) : ∀ (l : List Nat) (x c : Int32) (E : GH → Prop), md_ch (σ.2 35) x l → (∀ k ∈ l, k < e) → (∀ t, jc_all (σ.2 36) c l = .inr t → ∀ G, P none (ml_sa σ 36 e t) G) → (∀ kd, jc_all (σ.2 36) c l = .inl kd → PX kd (σ.1 42) σ) → ml_V z mX6_lookAtClock (d, 1, P, PX) 131 [(0, vR (some z.2.1)), (1, vI (nI e)), (3, vI c), (4, vI x)] [] σ E 1
  | [], x, c, E, h, _, hP, _ => by
    have hx : x < 0 := h
    refine mblookAtClock_131 (fun _ => ?_) (fun u => absurd hx u)
    refine mblookAtClock_161 (vp_in_nI (by omega) (by decide)) (fun G => ?_)
    rw [nI_clamp (by omega)]
    exact hP c rfl G
  | k :: l, x, c, E, h, hk, hP, hX => by
    obtain ⟨rfl, h⟩ := h
    have hk0 := hk k List.mem_cons_self
    have ck : (nI k).toNatClampNeg = k := nI_clamp (by omega)
    refine mblookAtClock_131 (fun q => absurd q (nI_pos (by omega))) (fun _ => ?_)
    refine mblookAtClock_136 (vp_in_nI (by omega) (by decide)) (X6_together_C (Nat.le_refl 5)) (by show _ ≤ d; omega) (Nat.le_refl 1) (ml_kr fun v σ' ⟨c2, g1, g2, g3⟩ => ?_) (fun kd pl σ' ⟨g1, g2, g3⟩ => ?_)
    · subst g2 g3
      rw [ck] at g1
      refine mblookAtClock_148 (vp_in_nI (by omega) (by decide)) ?_
      rw [ck]
      have e1 : jc_all (σ'.2 36) c (k :: l) = jc_all (σ'.2 36) c2 l := by rw [jc_all, g1]
      rw [e1] at hP hX
      exact lac_loop he hd P PX l _ _ _ h (fun q hq => hk q (List.mem_cons_of_mem _ hq)) hP hX
    · rw [ck] at g1
      rw [g2, g3]
      exact hX kd (by rw [jc_all, g1])
theorem X6_lookAtClock_C {n d e : Nat} {σ : MS} (hJ : pe_V n σ) (he : e < 5000) (hn : pw_n σ e) (hA : ∀ k, k < e → lw (σ.2 34) e ≤ k → jq σ (σ.2 36 k)) (hd : 6 ≤ d) :
    ml_C z mX6_lookAtClock d 1 [vR (some z.2.1), vI (nI e)] σ (fun v σ' _ => v = none ∧ ∃ t, jc σ (σ.2 36) e (kls σ e) = .inr t ∧ σ' = ml_sa σ 36 e t) (fun kd pl σ' => jc σ (σ.2 36) e (kls σ e) = .inl kd ∧ pl = σ.1 42 ∧ σ' = σ) := by
  obtain ⟨hch, hpk, hws⟩ := hn.kl (by omega)
  generalize hks : kls σ e = ks at *
  have hm := (pw_k_mem ks _ hpk).2
  obtain ⟨v1, v2, v3, v4, v5, v6, v7, v8, v9⟩ := hJ.N
  have hce : (nI e).toNatClampNeg = e := nI_clamp (by omega)
  have hi : vp_in (nI e) 66000 := vp_in_nI (by omega) (by decide)
  refine ml_C_of (by decide) rfl (Nat.le_of_ble_eq_true rfl) ?_
  have fin : ∀ E t, jc σ (σ.2 36) e ks = .inr t → ml_V z mX6_lookAtClock (d, 1, (fun v σ' _ => v = none ∧ ∃ t, jc σ (σ.2 36) e ks = .inr t ∧ σ' = ml_sa σ 36 e t), (fun kd pl σ' => jc σ (σ.2 36) e ks = .inl kd ∧ pl = σ.1 42 ∧ σ' = σ)) 161 [(0, vR (some z.2.1)), (1, vI (nI e)), (3, vI t)] [] σ E 1 := fun E t h => mblookAtClock_161 hi (fun G => by rw [hce]; exact ⟨rfl, t, h, rfl⟩)
  refine mblookAtClock_0 hi (fun q => ?_) (fun q => ?_)
  · rw [hce] at q ⊢
    refine mblookAtClock_34 hi (fun q2 => ?_) (fun q2 => ?_)
    · rw [hce] at q2
      refine mblookAtClock_78 hi (fun q3 => ?_) (fun q3 => ?_)
      · rw [hce] at q3
        refine mblookAtClock_128 ?_
        have ej : jc σ (σ.2 36) e ks = jc_all (σ.2 36) (-2) ks := by unfold jc; rw [if_neg q, if_neg q2, if_neg q3]
        rw [ej]
        exact lac_loop he hd _ _ ks _ _ _ hch (fun k hk => (hm k hk).2) (fun t ht G => ⟨rfl, t, ht, rfl⟩) (fun kd hk => ⟨hk, rfl, rfl⟩)
      · rw [hce] at q3
        have hs := hws
        rw [q3] at hs
        have hl : ks.length = 1 := by
          unfold pw_s at hs
          rcases hs with ⟨a, b⟩ | ⟨a, b, -⟩ | ⟨a, b, -⟩ | ⟨a, b, -⟩ | ⟨a, b⟩ | ⟨a, a2, b⟩ | ⟨a, a2, b⟩ | ⟨a, b, -⟩
          · exact absurd a (by decide)
          · exact absurd a (by decide)
          · exact absurd a (by decide)
          · exact absurd a (by decide)
          · exact absurd a (by decide)
          · exact absurd a2 (by decide)
          · exact b
          · exact absurd a (by decide)
        obtain ⟨k0, e1⟩ := List.length_eq_one_iff.1 hl
        rw [e1] at hch hm
        have hk := (hm k0 (by simp))
        have ck : (nI k0).toNatClampNeg = k0 := nI_clamp (by omega)
        rw [hch.1]
        have ej : jc σ (σ.2 36) e ks = if σ.2 36 k0 < 0 then .inl 6 else .inr (jc_v σ ((σ.2 36 k0).toNatClampNeg / 2)) := by unfold jc; rw [if_neg q, if_neg q2, if_pos q3, e1]; rfl
        refine mblookAtClock_89 (vp_in_nI (by omega) (by decide)) (fun q4 => ?_) (fun q4 => ?_)
        · rw [ck] at q4
          obtain ⟨w, w1, w2, w3⟩ := jq_neg (hA k0 hk.2 hk.1) q4
          rw [if_neg (Int32.not_lt.2 q4), w2, nI_clamp (by omega)] at ej
          have ed : σ.2 36 (nI k0).toNatClampNeg / 2 = nI (w / 2) := by
            rw [ck, w2]
            exact pk_div (d := 2) (by omega) (by decide) (by decide)
          refine mblookAtClock_112 (vp_in_nI (by omega) (by decide)) (by decide) (by rw [ed]; exact X6_clockOf_C (d := 5) hJ (by omega)) (by show _ ≤ d; omega) (Nat.zero_le _) (ml_krv fun σ' g => ?_) ml_no
          subst g
          refine mblookAtClock_124 (fin _ _ ej)
        · rw [ck] at q4
          rw [if_pos (Int32.not_le.1 q4)] at ej
          refine mblookAtClock_98 (Nat.le_refl 1) (fun q1 => ?_)
          refine mblookAtClock_101 rfl (X23_init_C (Nat.le_refl 4)) (fun G g => g) (by show _ ≤ d; omega) (Nat.zero_le _) ?_
          exact mblookAtClock_111 rfl (fun G g => g.1) (fun G g => ⟨by rw [ej, g.2.1], g.2.2, rfl⟩)
    · rw [hce] at q2
      have hs := hws
      rw [q2] at hs
      obtain ⟨hl, v, s, hs2, hv, hw⟩ : ks.length = 1 ∧ ∃ v s, s < 2 ∧ pr_a σ + v < pr_v σ ∧ σ.2 33 e = nI (2 * v + s) := by
        unfold pw_s at hs
        rcases hs with ⟨a, b⟩ | ⟨a, b, -⟩ | ⟨a, b, -⟩ | ⟨a, b, -⟩ | ⟨a, b⟩ | ⟨a, a2, b⟩ | ⟨a, a2, b⟩ | ⟨a, b, v, s, h1, h2, h3, h4⟩
        · exact absurd a (by decide)
        · exact absurd a (by decide)
        · exact absurd a (by decide)
        · exact absurd a (by decide)
        · exact absurd a (by decide)
        · exact absurd a2 (by decide)
        · exact absurd a2 (by decide)
        · exact ⟨b, v, s, h1, h2, h4⟩
      obtain ⟨k0, e1⟩ := List.length_eq_one_iff.1 hl
      rw [e1] at hch hm
      have hk := (hm k0 (by simp))
      have ck : (nI k0).toNatClampNeg = k0 := nI_clamp (by omega)
      rw [hch.1]
      have ej : jc σ (σ.2 36) e ks = match jc_two (σ.2 36 k0) (jc_v σ ((2 * v + s) / 2)) with
        | .inl k => .inl k
        | .inr _ => .inr (σ.2 33 e) := by unfold jc; rw [if_neg q, if_pos q2, e1, hw, nI_clamp (by omega)]; rfl
      have ed : σ.2 33 (nI e).toNatClampNeg / 2 = nI ((2 * v + s) / 2) := by
        rw [hce, hw]
        exact pk_div (d := 2) (by omega) (by decide) (by decide)
      refine mblookAtClock_45 (vp_in_nI (by omega) (by decide)) hi (by decide) (by rw [ed]; exact X6_clockOf_C (d := 5) hJ (by omega)) (by show _ ≤ d; omega) (Nat.zero_le _) (ml_krv fun σ' g => ?_) ml_no
      subst g
      rw [ck]
      refine mblookAtClock_64 (X6_together_C (Nat.le_refl 5)) (by show _ ≤ d; omega) (Nat.le_refl 1) (ml_kr fun v σ' ⟨c2, g1, g2, g3⟩ => ?_) (fun kd pl σ' ⟨g1, g2, g3⟩ => ⟨by rw [ej, g1], g2, g3⟩)
      subst g2 g3
      refine mblookAtClock_67 hi ?_
      rw [hce]
      exact fin _ _ (by rw [ej, g1])
  · rw [hce] at q
    have hs := hws
    rw [q] at hs
    obtain ⟨v, hv, hw⟩ : ∃ v, pr_a σ + v < pr_v σ ∧ σ.2 33 e = nI v := by
      unfold pw_s at hs
      rcases hs with ⟨a, b⟩ | ⟨a, b, -⟩ | ⟨a, b, h⟩ | ⟨a, b, -⟩ | ⟨a, b⟩ | ⟨a, a2, b⟩ | ⟨a, a2, b⟩ | ⟨a, b, -⟩
      · exact absurd a (by decide)
      · exact absurd a (by decide)
      · exact h
      · exact absurd a (by decide)
      · exact absurd a (by decide)
      · exact absurd a (by decide)
      · exact absurd a (by decide)
      · exact absurd a (by decide)
    have ej : jc σ (σ.2 36) e ks = .inr (jc_v σ v) := by unfold jc; rw [if_pos q, hw, nI_clamp (by omega)]
    refine mblookAtClock_20 hi (by rw [hce, hw]; exact X6_clockOf_C (d := 5) hJ (by omega)) (by show _ ≤ d; omega) (Nat.zero_le _) (ml_krv fun σ' g => ?_) ml_no
    subst g
    exact mblookAtClock_30 (fin _ _ ej)
end
