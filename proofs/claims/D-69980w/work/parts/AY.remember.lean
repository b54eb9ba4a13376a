/-! remember of the reference: what is kept for the next instant -/
set_option maxRecDepth 100000
/-- what e leaves for the next instant -/
def re_v (σ : MS) (x e : Nat) : MS :=
  if σ.2 32 e = 24 then ml_sa σ 76 (wv_at σ x e).toNatClampNeg (σ.2 77 (wv_k σ e 0))
  else if σ.2 32 e = 5 then ml_sa σ 76 (wv_at σ x e).toNatClampNeg 1
  else if σ.2 32 e = 25 then (if md_pr σ 60 x (σ.2 43 (wv_k σ e 0)) = true then ml_sa σ 76 (wv_at σ x e).toNatClampNeg (σ.2 77 (wv_k σ e 0)) else σ)
  else if σ.2 32 e = 6 then ml_sa (ml_sa σ 76 (wv_at σ x e).toNatClampNeg (σ.2 77 (wv_k σ e 1))) 76 (wv_at σ x e + 1).toNatClampNeg 1
  else σ
def re1 (σ : MS) (x e : Nat) : MS := if md_pr σ 60 x (σ.2 43 e) = true then re_v (ml_sa σ 77 e (wv σ x e)) x e else σ
def re (x : Nat) : Nat → Nat → MS → MS
  | 0, _, σ => σ
  | f + 1, e, σ => re x f (e + 1) (re1 σ x e)
theorem re_v_2 {σ : MS} {x e q : Nat} (h : q ≠ 76) : (re_v σ x e).2 q = σ.2 q := by
  have h1 : ∀ (σ : MS) (i : Nat) (v : Int32), (ml_sa σ 76 i v).2 q = σ.2 q := fun σ i v => by
    funext j
    rw [ml_sa_a, if_neg h]
  unfold re_v
  split
  · exact h1 _ _ _
  · split
    · exact h1 _ _ _
    · split
      · split
        · exact h1 _ _ _
        · rfl
      · split
        · rw [h1, h1]
        · rfl
theorem re_v_1 {σ : MS} {x e : Nat} : (re_v σ x e).1 = σ.1 := by
  unfold re_v
  split
  · rfl
  · split
    · rfl
    · split
      · split <;> rfl
      · split <;> rfl
theorem re1_2 {σ : MS} {x e q : Nat} (h : q ≠ 76) (h2 : q ≠ 77) : (re1 σ x e).2 q = σ.2 q := by
  unfold re1
  split
  · rw [re_v_2 h]
    funext j
    rw [ml_sa_a, if_neg h2]
  · rfl
theorem re1_1 {σ : MS} {x e : Nat} : (re1 σ x e).1 = σ.1 := by
  unfold re1
  split
  · rw [re_v_1]
    rfl
  · rfl
theorem re_2 {x q : Nat} (h : q ≠ 76) (h2 : q ≠ 77) : ∀ f e σ, (re x f e σ).2 q = σ.2 q := by
  intro f
  induction f with
  | zero => intro e σ; rfl
  | succ f ih => intro e σ; rw [re, ih, re1_2 h h2]
theorem re_1 {x : Nat} : ∀ f e σ, (re x f e σ).1 = σ.1 := by
  intro f
  induction f with
  | zero => intro e σ; rfl
  | succ f ih => intro e σ; rw [re, ih, re1_1]
section
variable {z : MZ} {T : Nat → Int32} {n : Nat} {S : MS} {A Q P L B M C : Nat → Nat} {I : Nat}
theorem rw_k2 (h : rw_K T n S A Q P L) {m e : Nat} (hm : m < pr_N S) (h1 : P m ≤ e) (h2 : e < P (m + 1)) (q : 5 ≤ S.2 32 e ∧ S.2 32 e ≤ 21) : ∃ k0 k1, kls S e = [k0, k1] ∧ S.2 34 e = nI k0 ∧ S.2 35 k0 = nI k1 ∧ k0 < 5000 ∧ k1 < 5000 := by
  obtain ⟨i, o, hn⟩ := h.1.2.1 m hm
  have hp5 : P (m + 1) ≤ 5000 := hn.2.1.2.2.2.2.2.2.2.1
  obtain ⟨s1, s2, s3, s4⟩ := nf_call hn h1 h2
  have hkm := (pw_k_mem _ _ s4).2
  have hl : (kls S e).length = 2 := by
    rcases s1 with ⟨u, -⟩ | ⟨u, -⟩ | ⟨u, -⟩ | ⟨u, -⟩ | ⟨u, m⟩ | ⟨u, r, m⟩ | ⟨u, r, m⟩ | ⟨u, m, -⟩
    · rw [u] at q; exact absurd q (by decide)
    · rw [u] at q; exact absurd q (by decide)
    · rw [u] at q; exact absurd q (by decide)
    · rw [u] at q; exact absurd q (by decide)
    · rw [u] at q; exact absurd q (by decide)
    · exact m
    · exact absurd (Int32.le_trans u q.2) (by decide)
    · rw [u] at q; exact absurd q (by decide)
  generalize kls S e = ks at hl s3 hkm
  match ks, hl with
  | [a, b], _ =>
    have a0 := hkm a List.mem_cons_self
    have a1 := hkm b (List.mem_cons_of_mem _ List.mem_cons_self)
    exact ⟨a, b, rfl, s3.1, s3.2.1, by omega, by omega⟩
theorem rw_k1 (h : rw_K T n S A Q P L) {m e : Nat} (hm : m < pr_N S) (h1 : P m ≤ e) (h2 : e < P (m + 1)) (q : 22 ≤ S.2 32 e ∧ S.2 32 e ≤ 26) : ∃ k0, kls S e = [k0] ∧ S.2 34 e = nI k0 ∧ k0 < 5000 := by
  obtain ⟨i, o, hn⟩ := h.1.2.1 m hm
  have hp5 : P (m + 1) ≤ 5000 := hn.2.1.2.2.2.2.2.2.2.1
  obtain ⟨s1, s2, s3, s4⟩ := nf_call hn h1 h2
  have hkm := (pw_k_mem _ _ s4).2
  have hl : (kls S e).length = 1 := by
    rcases s1 with ⟨u, -⟩ | ⟨u, -⟩ | ⟨u, -⟩ | ⟨u, -⟩ | ⟨u, m⟩ | ⟨u, r, m⟩ | ⟨u, r, m⟩ | ⟨u, m, -⟩
    · rw [u] at q; exact absurd q (by decide)
    · rw [u] at q; exact absurd q (by decide)
    · rw [u] at q; exact absurd q (by decide)
    · rw [u] at q; exact absurd q (by decide)
    · rw [u] at q; exact absurd q (by decide)
    · exact absurd (Int32.le_trans q.1 r) (by decide)
    · exact m
    · exact m
  generalize kls S e = ks at hl s3 hkm
  match ks, hl with
  | [a], _ =>
    have a0 := hkm a List.mem_cons_self
    exact ⟨a, rfl, s3.1, by omega⟩
/-- from the end of work to the next part -/
theorem re_step (h : rw_K T n S A Q P L) (hI : rw_I S I B M C) {σ F : MS} (hS : ∀ q, q ≤ 64 → σ.2 q = S.2 q) {x m e d : Nat} {w2 w3 : Int32} {E : GH → Prop} (hx : x < I) (h56 : S.2 56 x = nI m) (hm : m < pr_N S) (h1 : P m ≤ e) (h2 : e < P (m + 1)) (hd : 63 ≤ d)
    (k : ∀ E, ml_V z mX6_remember (d, 0, (fun u σ' _ => u = none ∧ σ' = F), fun _ _ _ => False) 225 [(0, vR (some z.2.1)), (1, vI (nI x)), (2, vI w2), (3, vI w3), (4, vI (nI e))] [] (re_v σ x e) E 0) :
    ml_V z mX6_remember (d, 0, (fun u σ' _ => u = none ∧ σ' = F), fun _ _ _ => False) 70 [(0, vR (some z.2.1)), (1, vI (nI x)), (2, vI w2), (3, vI w3), (4, vI (nI e))] [] σ E 0 := by
  have hI32 : I ≤ 3200 := hI.1.2.2.2.2.2.2.1
  have hM6 : M I ≤ 6000 := hI.1.2.2.2.2.1
  obtain ⟨i, o, hn⟩ := h.1.2.1 m hm
  have hp5 : P (m + 1) ≤ 5000 := hn.2.1.2.2.2.2.2.2.2.1
  have ce : (nI e).toNatClampNeg = e := nI_clamp (by omega)
  have cx : (nI x).toNatClampNeg = x := nI_clamp (by omega)
  have ve : vp_in (nI e) 66000 := vp_in_nI (by omega) (by decide)
  have vx : vp_in (nI x) 3200 := vp_in_nI (by omega) (by decide)
  have hkls : kls σ e = kls S e := by
    unfold kls
    rw [hS 34 (by omega), hS 35 (by omega)]
  have e32 : σ.2 32 e = S.2 32 e := by rw [hS 32 (by omega)]
  have e34 : σ.2 34 e = S.2 34 e := by rw [hS 34 (by omega)]
  have eat : σ.2 60 (nI x).toNatClampNeg + σ.2 37 (nI e).toNatClampNeg = wv_at σ x e := by rw [ce, cx, wv_at]
  have hat : nx_s (σ.2 32 e) ≠ 0 → ∃ t, wv_at σ x e = nI t ∧ t + nx_s (σ.2 32 e) ≤ 6000 := fun q => by
    rw [e32] at q
    obtain ⟨t, r1, r2, r3, r4⟩ := rw_mem h hI hx h56 hm h1 h2 q
    exact ⟨M x + t, by rw [wv_at, hS 60 (by omega), hS 37 (by omega)]; exact r1, by rw [e32]; omega⟩
  have end0 : ∀ x5 x6 E, σ.2 32 e ≠ 6 → re_v σ x e = σ → ml_V z mX6_remember (d, 0, (fun u σ' _ => u = none ∧ σ' = F), fun _ _ _ => False) 181 [(0, vR (some z.2.1)), (1, vI (nI x)), (2, vI w2), (3, vI w3), (4, vI (nI e)), (5, vI x5), (6, vI x6)] [] σ E 0 := fun x5 x6 E h6 hv => by
    refine mbremember_181 ve (fun u => absurd u (by rw [ce]; exact h6)) (fun _ => mbremember_193 ?_)
    have := k (fun _ => True)
    rw [hv] at this
    exact fun G a b _ => this G a b trivial
  have end1 : ∀ x5 x6 σ1 E, σ1.2 32 e ≠ 6 → re_v σ x e = σ1 → ml_V z mX6_remember (d, 0, (fun u σ' _ => u = none ∧ σ' = F), fun _ _ _ => False) 181 [(0, vR (some z.2.1)), (1, vI (nI x)), (2, vI w2), (3, vI w3), (4, vI (nI e)), (5, vI x5), (6, vI x6)] [] σ1 E 0 := fun x5 x6 σ1 E h6 hv => by
    refine mbremember_181 ve (fun u => absurd u (by rw [ce]; exact h6)) (fun _ => mbremember_193 ?_)
    rw [← hv]
    exact k _
  have sa : ∀ (σ : MS) (i : Nat) (v : Int32), (ml_sa σ 76 i v).2 32 e = σ.2 32 e := fun σ i v => by rw [ml_sa_a, if_neg (by omega)]
  refine mbremember_70 vx ve (fun c => ?_) (fun c => ?_)
  · rw [ce] at c
    rw [eat, ce]
    refine mbremember_121 ve (fun c2 => ?_) (fun c2 => ?_)
    · rw [ce] at c2
      refine mbremember_140 ve (fun c3 => ?_) (fun c3 => ?_)
      · rw [ce] at c3
        refine mbremember_181 ve (fun c4 => ?_) (fun c4 => mbremember_193 ?_)
        · rw [ce] at c4
          obtain ⟨k0, k1, g1, g2, g3, g4, g5⟩ := rw_k2 h hm h1 h2 (by rw [← e32, c4]; decide)
          obtain ⟨t, t1, t2⟩ := hat (by rw [c4]; decide)
          have n6 : nx_s (σ.2 32 e) = 2 := by rw [c4]; rfl
          have c0 : (nI k0).toNatClampNeg = k0 := nI_clamp (by omega)
          have c1 : (nI k1).toNatClampNeg = k1 := nI_clamp (by omega)
          have g3' : σ.2 35 k0 = nI k1 := by rw [hS 35 (by omega)]; exact g3
          rw [e34, g2]
          refine mbremember_196 (vp_in_nI (by omega) (by decide)) (by rw [c0, g3']; exact vp_in_nI (by omega) (by decide)) (by rw [t1]; exact vp_in_nI (by omega) (by decide)) (by rw [t1, nI_1]; exact vp_in_nI (by omega) (by decide)) ?_
          have ev : re_v σ x e = ml_sa (ml_sa σ 76 (wv_at σ x e).toNatClampNeg (σ.2 77 k1)) 76 (wv_at σ x e + 1).toNatClampNeg 1 := by
            unfold re_v wv_k
            rw [if_neg c, if_neg c2, if_neg c3, if_pos c4, hkls, g1]
            rfl
          rw [c0, g3', c1, ← ev]
          exact k _
        · rw [ce] at c4
          have ev : re_v σ x e = σ := by
            unfold re_v
            rw [if_neg c, if_neg c2, if_neg c3, if_neg c4]
          have := k (fun _ => True)
          rw [ev] at this
          exact fun G a b _ => this G a b trivial
      · rw [ce] at c3
        obtain ⟨k0, g1, g2, g4⟩ := rw_k1 h hm h1 h2 (by rw [← e32, c3]; decide)
        obtain ⟨t, t1, t2⟩ := hat (by rw [c3]; decide)
        have n6 : nx_s (σ.2 32 e) = 1 := by rw [c3]; rfl
        have c0 : (nI k0).toNatClampNeg = k0 := nI_clamp (by omega)
        obtain ⟨k9, w, r1, r2, r3, r4, r5, r6, -⟩ := rw_cur h hm h1 h2 (by rw [← e32]; exact c3)
        have ek : k9 = k0 := by
          rw [r1] at g1
          exact (List.cons.inj g1).1
        subst ek
        have ev : re_v σ x e = (if md_pr σ 60 x (σ.2 43 k9) = true then ml_sa σ 76 (wv_at σ x e).toNatClampNeg (σ.2 77 k9) else σ) := by
          unfold re_v wv_k
          rw [if_neg c, if_neg c2, if_pos c3, hkls, g1]
          rfl
        rw [e34, g2]
        refine mbremember_152 (P := fun u σ' _ => u = some (vI (if md_pr σ 60 x (σ.2 43 k9) = true then 1 else 0)) ∧ σ' = σ) (PX := fun _ _ _ => False) (d' := 60) (b' := 0) (vp_in_nI (by omega) (by decide)) (by rw [c0]; exact rw_present h hI hS hx h56 hm (Or.inr ⟨w, r4, by rw [hS 43 (by omega)]; exact r5, r6⟩) (by omega)) (by show 60 + 1 ≤ d; omega) (Nat.zero_le _) (ml_krv fun σ2 g => ?_) ml_no
        subst g
        refine mbremember_164 (fun u => ?_) (fun u => ?_)
        · have u2 : ¬ md_pr σ2 60 x (σ2.2 43 k9) = true := fun y => by
            rw [if_pos y] at u
            exact absurd u (by decide)
          rw [if_neg u2] at ev
          exact end0 _ _ _ (by rw [c3]; decide) ev
        · have u2 : md_pr σ2 60 x (σ2.2 43 k9) = true := Decidable.byContradiction fun y => u (by rw [if_neg y])
          rw [if_pos u2] at ev
          refine mbremember_167 (vp_in_nI (by omega) (by decide)) (by rw [t1]; exact vp_in_nI (by omega) (by decide)) ?_
          rw [c0]
          exact end1 _ _ _ _ (by rw [sa, c3]; decide) ev
    · rw [ce] at c2
      obtain ⟨t, t1, t2⟩ := hat (by rw [c2]; decide)
      have n6 : nx_s (σ.2 32 e) = 1 := by rw [c2]; rfl
      have ev : re_v σ x e = ml_sa σ 76 (wv_at σ x e).toNatClampNeg 1 := by
        unfold re_v
        rw [if_neg c, if_pos c2]
      refine mbremember_132 (by rw [t1]; exact vp_in_nI (by omega) (by decide)) (mbremember_140 ve (fun _ => end1 _ _ _ _ (by rw [sa, c2]; decide) ev) (fun u => ?_))
      rw [ce, sa, c2] at u
      exact absurd u (by decide)
  · rw [ce] at c
    rw [eat, ce]
    obtain ⟨k0, g1, g2, g4⟩ := rw_k1 h hm h1 h2 (by rw [← e32, c]; decide)
    obtain ⟨t, t1, t2⟩ := hat (by rw [c]; decide)
    have n6 : nx_s (σ.2 32 e) = 1 := by rw [c]; rfl
    have c0 : (nI k0).toNatClampNeg = k0 := nI_clamp (by omega)
    have ev : re_v σ x e = ml_sa σ 76 (wv_at σ x e).toNatClampNeg (σ.2 77 k0) := by
      unfold re_v wv_k
      rw [if_pos c, hkls, g1]
      rfl
    rw [e34, g2]
    refine mbremember_107 (vp_in_nI (by omega) (by decide)) (by rw [t1]; exact vp_in_nI (by omega) (by decide)) ?_
    rw [c0]
    refine mbremember_121 ve (fun _ => mbremember_140 ve (fun _ => end1 _ _ _ _ (by rw [sa, c]; decide) ev) (fun u => ?_)) (fun u => ?_)
    · rw [ce, sa, c] at u
      exact absurd u (by decide)
    · rw [ce, sa, c] at u
      exact absurd u (by decide)
theorem X6_remember_C (h : rw_K T n S A Q P L) (hI : rw_I S I B M C) {σ : MS} (hS : ∀ q, q ≤ 64 → σ.2 q = S.2 q) {x m d : Nat} (hx : x < I) (h56 : S.2 56 x = nI m) (hm : m < pr_N S) (hd : 64 ≤ d) : ml_C z mX6_remember d 0 [vR (some z.2.1), vI (nI x)] σ (fun u σ' _ => u = none ∧ σ' = re x (P (m + 1) - P m) (P m) σ) (fun _ _ _ => False) := by
  have hI32 : I ≤ 3200 := hI.1.2.2.2.2.2.2.1
  have hN := rw_N h
  obtain ⟨i, o, hn⟩ := h.1.2.1 m hm
  obtain ⟨⟨a1, a2, a3, a4, a5, a6⟩, ⟨b1, b2, b3, b4, b5, b6, b7, b8, b9, b10, b11, b12, b13, b14⟩, ⟨Pk, Lk, ⟨c1, c2, c3, c4⟩, c5, c6⟩, -⟩ := id hn
  have cx : (nI x).toNatClampNeg = x := nI_clamp (by omega)
  have cm : (nI m).toNatClampNeg = m := nI_clamp (by omega)
  have vx : vp_in (nI x) 3200 := vp_in_nI (by omega) (by decide)
  refine ml_C_of (by decide) rfl (Nat.le_of_ble_eq_true rfl) ?_
  generalize hF : re x (P (m + 1) - P m) (P m) σ = F
  have inner : ∀ k, Q m ≤ k → k < Q (m + 1) → (∀ σ E, (∀ q, q ≤ 64 → σ.2 q = S.2 q) → re x (P (m + 1) - Pk (k + 1)) (Pk (k + 1)) σ = F → ml_V z mX6_remember (d, 0, (fun u σ' _ => u = none ∧ σ' = F), fun _ _ _ => False) 14 [(0, vR (some z.2.1)), (1, vI (nI x)), (2, vI (nI m)), (3, vI (nI (k + 1)))] [] σ E 0) → ∀ f e σ E, e + f = Pk (k + 1) → Pk k ≤ e → (∀ q, q ≤ 64 → σ.2 q = S.2 q) → re x (P (m + 1) - e) e σ = F → ml_V z mX6_remember (d, 0, (fun u σ' _ => u = none ∧ σ' = F), fun _ _ _ => False) 34 [(0, vR (some z.2.1)), (1, vI (nI x)), (2, vI (nI m)), (3, vI (nI k)), (4, vI (nI e))] [] σ E 0 := by
    intro k k1 k2 out f
    obtain ⟨c, hW, -⟩ := c6 k k1 k2
    obtain ⟨m1, m2, m3, m4⟩ := c5 k k1 k2
    obtain ⟨w1, w2, w3, w4, w5, w6, w7, w8, w9, w10, w11, w12, w13⟩ := hW
    have w4 : S.2 27 k = nI (Pk (k + 1) - 1) := w4
    have ck : (nI k).toNatClampNeg = k := nI_clamp (by omega)
    have vk : vp_in (nI k) 17000 := vp_in_nI (by omega) (by decide)
    induction f with
    | zero =>
      intro e σ E he hl hS hF
      rw [Nat.add_zero] at he
      subst he
      refine mbremember_34 vk (fun _ => ?_) (fun u => ?_)
      · refine mbremember_231 ?_
        rw [nI_1]
        exact out σ _ hS hF
      · rw [ck, hS 27 (by omega), w4] at u
        exact absurd (nI_lt (by omega) (by omega)) u
    | succ f ih =>
      intro e σ E he hl hS hF
      rw [show P (m + 1) - e = P (m + 1) - (e + 1) + 1 by omega, re] at hF
      have ce : (nI e).toNatClampNeg = e := nI_clamp (by omega)
      have ve : vp_in (nI e) 66000 := vp_in_nI (by omega) (by decide)
      have next : ∀ σ E, (∀ q, q ≤ 64 → σ.2 q = S.2 q) → re x (P (m + 1) - (e + 1)) (e + 1) σ = F → ml_V z mX6_remember (d, 0, (fun u σ' _ => u = none ∧ σ' = F), fun _ _ _ => False) 225 [(0, vR (some z.2.1)), (1, vI (nI x)), (2, vI (nI m)), (3, vI (nI k)), (4, vI (nI e))] [] σ E 0 := fun σ E hS hF => by
        refine mbremember_225 ?_
        rw [nI_1]
        exact ih (e + 1) σ _ (by omega) (by omega) hS hF
      refine mbremember_34 vk (fun u => ?_) (fun _ => ?_)
      · rw [ck, hS 27 (by omega), w4] at u
        exact absurd u (Int32.not_lt.2 (nI_le (by omega) (by omega)))
      have hc := rw_fq h (m := m) (e := e) hm (by omega) (by omega)
      refine mbremember_45 (P := fun u σ' _ => u = some (vI (if md_pr σ 60 x (σ.2 43 e) = true then 1 else 0)) ∧ σ' = σ) (PX := fun _ _ _ => False) (d' := 60) (b' := 0) ve (by rw [ce]; refine rw_present h hI hS hx h56 hm ?_ (by omega); rw [hS 43 (by omega)]; rcases hc with w | ⟨w, w1, w2, w3, -⟩; exact Or.inl w; exact Or.inr ⟨w, w1, w2, w3⟩) (by show 60 + 1 ≤ d; omega) (Nat.zero_le _) (ml_krv fun σ2 g => ?_) ml_no
      subst g
      refine mbremember_57 (fun w => ?_) (fun w => ?_)
      · have w2 : md_pr σ2 60 x (σ2.2 43 e) = true := Decidable.byContradiction fun y => w (by rw [if_neg y])
        rw [re1, if_pos w2] at hF
        refine mbremember_63 (d' := 61) (b' := 0) (X6_work_C h hI hS hx h56 hm (by omega) (by omega) (by omega)) (by show 61 + 1 ≤ d; omega) (Nat.zero_le _) (ml_kr0 fun σ3 g => ?_) ml_no
        subst g
        have hS3 : ∀ q, q ≤ 64 → (ml_sa σ2 77 e (wv σ2 x e)).2 q = S.2 q := fun q hq => by
          funext j
          rw [ml_sa_a, if_neg (by omega)]
          rw [hS q hq]
        refine re_step h hI hS3 hx h56 hm (by omega) (by omega) (by omega) (fun E => next _ _ (fun q hq => ?_) hF)
        rw [re_v_2 (by omega)]
        exact hS3 q hq
      · have w2 : ¬ md_pr σ2 60 x (σ2.2 43 e) = true := fun y => by
          rw [if_pos y] at w
          exact absurd w (by decide)
        rw [re1, if_neg w2] at hF
        exact mbremember_60 (next σ2 _ hS hF)
  have outer : ∀ f k σ E, k + f = Q (m + 1) → Q m ≤ k → (∀ q, q ≤ 64 → σ.2 q = S.2 q) → re x (P (m + 1) - Pk k) (Pk k) σ = F → ml_V z mX6_remember (d, 0, (fun u σ' _ => u = none ∧ σ' = F), fun _ _ _ => False) 14 [(0, vR (some z.2.1)), (1, vI (nI x)), (2, vI (nI m)), (3, vI (nI k))] [] σ E 0 := by
    intro f
    induction f with
    | zero =>
      intro k σ E hk hl hS hF
      rw [Nat.add_zero] at hk
      subst hk
      rw [c2, Nat.sub_self, re] at hF
      refine mbremember_14 (by rw [nI_1]; exact vp_in_nI (by omega) (by decide)) (fun _ => mbremember_237 (fun G _ => ⟨rfl, hF⟩)) (fun u => ?_)
      rw [nI_1, nI_clamp (n := m + 1) (by omega), hS 15 (by omega), a6] at u
      exact absurd (nI_le (Nat.le_refl _) (by omega)) u
    | succ f ih =>
      intro k σ E hk hl hS hF
      obtain ⟨c, hW, -⟩ := c6 k hl (by omega)
      obtain ⟨m1, m2, m3, m4⟩ := c5 k hl (by omega)
      obtain ⟨w1, w2, w3, w4, w5, w6, w7, w8, w9, w10, w11, w12, w13⟩ := hW
      have w3 : S.2 29 k = nI (Pk k) := w3
      have ck : (nI k).toNatClampNeg = k := nI_clamp (by omega)
      refine mbremember_14 (by rw [nI_1]; exact vp_in_nI (by omega) (by decide)) (fun u => ?_) (fun _ => ?_)
      · rw [nI_1, nI_clamp (n := m + 1) (by omega), hS 15 (by omega), a6] at u
        exact absurd u (Int32.not_le.2 (nI_lt (by omega) (by omega)))
      · refine mbremember_26 (vp_in_nI (by omega) (by decide)) ?_
        rw [ck, hS 29 (by omega), w3]
        exact inner k hl (by omega) (fun σ E hS hF => ih (k + 1) σ E (by omega) (by omega) hS hF) (Pk (k + 1) - Pk k) (Pk k) σ _ (by omega) (Nat.le_refl _) hS hF
  have e56 : σ.2 56 x = nI m := by rw [hS 56 (by omega)]; exact h56
  refine mbremember_0 vx (by rw [cx, e56]; exact vp_in_nI (by omega) (by decide)) ?_
  rw [cx, e56, cm, hS 15 (by omega), a5]
  exact outer (Q (m + 1) - Q m) (Q m) σ _ (by omega) (Nat.le_refl _) hS (by rw [c1]; exact hF)
end
