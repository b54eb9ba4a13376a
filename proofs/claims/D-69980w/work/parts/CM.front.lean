/-! lists of nodes, both ways; moveRootToFront -/
set_option maxRecDepth 100000
/-- a piece of a chain -/
def hseg (G : GH) : Option Nat → List Nat → Option Nat → Prop
  | p, [], q => p = q
  | p, x :: xs, q => p = some x ∧ hseg G (hp_r G x 3) xs q
/-- the last of a list -/
def lst : Option Nat → List Nat → Option Nat
  | p, [] => p
  | _, x :: xs => lst (some x) xs
section
variable {G G' : GH}
theorem hseg_ch : ∀ (xs : List Nat) (p : Option Nat), hseg G p xs none ↔ hch G p xs
  | [], _ => Iff.rfl
  | x :: xs, p => and_congr Iff.rfl (hseg_ch xs _)
theorem hseg_app : ∀ (xs : List Nat) (p : Option Nat) (ys : List Nat) (q : Option Nat), hseg G p (xs ++ ys) q ↔ ∃ m, hseg G p xs m ∧ hseg G m ys q
  | [], p, ys, q => ⟨fun h => ⟨p, rfl, h⟩, fun ⟨m, h1, h2⟩ => by rw [show p = m from h1]; exact h2⟩
  | x :: xs, p, ys, q => by
    constructor
    · rintro ⟨h1, h2⟩
      obtain ⟨m, m1, m2⟩ := (hseg_app xs _ ys q).1 h2
      exact ⟨m, ⟨h1, m1⟩, m2⟩
    · rintro ⟨m, ⟨m1, m2⟩, m3⟩
      exact ⟨m1, (hseg_app xs _ ys q).2 ⟨m, m2, m3⟩⟩
theorem hseg.fr : ∀ (xs : List Nat) (p q : Option Nat), (∀ x ∈ xs, hp_r G' x 3 = hp_r G x 3) → hseg G p xs q → hseg G' p xs q
  | [], _, _, _, h => h
  | x :: xs, _, _, h0, h => ⟨h.1, by rw [h0 x List.mem_cons_self]; exact hseg.fr xs _ _ (fun y hy => h0 y (List.mem_cons_of_mem _ hy)) h.2⟩
theorem lst_mem : ∀ (xs : List Nat) (p : Option Nat) (z : Nat), lst p xs = some z → p = some z ∨ z ∈ xs
  | [], _, _, h => Or.inl h
  | x :: xs, _, z, h => by
    rcases lst_mem xs _ z h with u | u
    · exact Or.inr (by rw [Option.some.inj u]; exact List.mem_cons_self)
    · exact Or.inr (List.mem_cons_of_mem _ u)
theorem lst_app : ∀ (xs : List Nat) (p : Option Nat) (ys : List Nat), lst p (xs ++ ys) = lst (lst p xs) ys
  | [], _, _ => rfl
  | x :: xs, _, ys => lst_app xs _ ys
theorem hseg_last : ∀ (xs : List Nat) (p m : Option Nat), hseg G p xs m → ∀ (z : Nat) (m2 : Option Nat), lst none xs = some z → xs.Nodup → (∀ x ∈ xs, x ≠ z → hp_r G' x 3 = hp_r G x 3) → hp_r G' z 3 = m2 → hseg G' p xs m2
  | [], _, _, _, z, _, h2, _, _, _ => by cases h2
  | [x], _, _, h, z, m2, h2, _, _, h5 => by
    have e : x = z := Option.some.inj h2
    exact ⟨h.1, by rw [e]; exact h5⟩
  | x :: y :: ys, p, m, h, z, m2, h2, h3, h4, h5 => by
    have h2' : lst none (y :: ys) = some z := h2
    have hz : z ∈ y :: ys := (lst_mem _ _ z h2').elim (fun e => by cases e) id
    have hx := List.nodup_cons.1 h3
    have nz : x ≠ z := fun e => hx.1 (by rw [e]; exact hz)
    exact ⟨h.1, by rw [h4 x List.mem_cons_self nz]; exact hseg_last (y :: ys) _ m h.2 z m2 h2' hx.2 (fun v hv => h4 v (List.mem_cons_of_mem _ hv)) h5⟩
theorem hpv_app : ∀ (xs : List Nat) (p : Option Nat) (ys : List Nat), hpv G p (xs ++ ys) ↔ hpv G p xs ∧ hpv G (lst p xs) ys
  | [], p, ys => ⟨fun h => ⟨trivial, h⟩, fun h => h.2⟩
  | x :: xs, p, ys => ⟨fun h => by
      obtain ⟨a, b⟩ := (hpv_app xs (some x) ys).1 h.2
      exact ⟨⟨h.1, a⟩, b⟩, fun h => ⟨h.1.1, (hpv_app xs (some x) ys).2 ⟨h.1.2, h.2⟩⟩⟩
theorem hpv.fr7 : ∀ (xs : List Nat) (p : Option Nat), (∀ x ∈ xs, hp_r G' x 7 = hp_r G x 7) → hpv G p xs → hpv G' p xs
  | [], _, _, h => h
  | x :: xs, _, h0, h => ⟨by rw [h0 x List.mem_cons_self]; exact h.1, hpv.fr7 xs _ (fun y hy => h0 y (List.mem_cons_of_mem _ hy)) h.2⟩
/-- the node r comes to the front -/
theorem mv_list {B l1 l2 : List Nat} {p : Option Nat} {r b0 z : Nat} (hB : B = b0 :: l1 ++ r :: l2) (nd : B.Nodup) (hc : hch G p B) (hv : hpv G none B) (hz : lst none (b0 :: l1) = some z)
    (h3 : ∀ x ∈ B, hp_r G' x 3 = if x = r then some b0 else if x = z then hp_r G r 3 else hp_r G x 3)
    (h7 : ∀ x ∈ B, hp_r G' x 7 = if x = r then none else if x = b0 then some r else if hp_r G r 3 = some x then some z else hp_r G x 7) :
    hch G' (some r) (r :: (b0 :: l1 ++ l2)) ∧ hpv G' none (r :: (b0 :: l1 ++ l2)) := by
  subst hB
  rw [← hseg_ch] at hc
  obtain ⟨m, c1, c2, c3⟩ := (hseg_app _ _ _ _).1 hc
  obtain ⟨v1, v2, v3⟩ := (hpv_app _ _ _).1 hv
  rw [hz] at v2
  obtain ⟨n1, n2, n3⟩ := List.nodup_append.1 nd
  have n4 := List.nodup_cons.1 n2
  have zm : z ∈ b0 :: l1 := (lst_mem _ _ z hz).elim (fun e => by cases e) id
  have ne1 : ∀ x ∈ b0 :: l1, x ≠ r := fun x hx => n3 x hx r List.mem_cons_self
  have ne2 : ∀ x ∈ l2, x ≠ r := fun x hx e => n4.1 (by rw [← e]; exact hx)
  have ne3 : ∀ x ∈ l2, ∀ y ∈ b0 :: l1, x ≠ y := fun x hx y hy e => n3 y hy x (List.mem_cons_of_mem _ hx) e.symm
  have rB : r ∈ b0 :: l1 ++ r :: l2 := List.mem_append_right _ List.mem_cons_self
  have b0r := ne1 b0 List.mem_cons_self
  have i1 : ∀ x ∈ b0 :: l1, x ∈ b0 :: l1 ++ r :: l2 := fun x hx => List.mem_append_left _ hx
  have i2 : ∀ x ∈ l2, x ∈ b0 :: l1 ++ r :: l2 := fun x hx => List.mem_append_right _ (List.mem_cons_of_mem _ hx)
  have n5 := List.nodup_cons.1 n1
  refine ⟨?_, ?_⟩
  · rw [← hseg_ch]
    refine ⟨rfl, ?_⟩
    rw [h3 r rB, if_pos rfl]
    refine (hseg_app _ _ _ _).2 ⟨hp_r G r 3, ?_, ?_⟩
    · have c1' : hseg G (some b0) (b0 :: l1) m := by
        have e : p = some b0 := c1.1
        rw [← e]
        exact c1
      refine hseg_last _ _ m c1' z _ hz n1 (fun x hx hne => ?_) ?_
      · rw [h3 x (i1 x hx), if_neg (ne1 x hx), if_neg hne]
      · rw [h3 z (i1 z zm), if_neg (ne1 z zm), if_pos rfl]
    · refine hseg.fr _ _ _ (fun x hx => ?_) c3
      rw [h3 x (i2 x hx), if_neg (ne2 x hx), if_neg (ne3 x hx z zm)]
  · refine ⟨by rw [h7 r rB, if_pos rfl], ?_⟩
    refine (hpv_app _ _ _).2 ⟨⟨by rw [h7 b0 (i1 b0 List.mem_cons_self), if_neg b0r, if_pos rfl], ?_⟩, ?_⟩
    · refine hpv.fr7 _ _ (fun x hx => ?_) v1.2
      have hx1 : x ∈ b0 :: l1 := List.mem_cons_of_mem _ hx
      rw [h7 x (i1 x hx1), if_neg (ne1 x hx1), if_neg (fun e => n5.1 (by rw [← e]; exact hx)), if_neg (fun e => ?_)]
      cases l2 with
      | nil => have t : hp_r G r 3 = none := c3; rw [t] at e; cases e
      | cons y ys =>
        have t : hp_r G r 3 = some y := c3.1
        rw [t] at e
        exact ne3 y List.mem_cons_self x hx1 (Option.some.inj e)
    · show hpv G' (lst none (b0 :: l1)) l2
      rw [hz]
      cases l2 with
      | nil => exact trivial
      | cons y ys =>
        have t : hp_r G r 3 = some y := c3.1
        have n6 := List.nodup_cons.1 n4.2
        have hy := i2 y List.mem_cons_self
        refine ⟨by rw [h7 y hy, if_neg (ne2 y List.mem_cons_self), if_neg (ne3 y List.mem_cons_self b0 List.mem_cons_self), if_pos t], hpv.fr7 _ _ (fun x hx => ?_) v3.2⟩
        have hx2 : x ∈ y :: ys := List.mem_cons_of_mem _ hx
        rw [h7 x (i2 x hx2), if_neg (ne2 x hx2), if_neg (ne3 x hx2 b0 List.mem_cons_self), if_neg (fun e => ?_)]
        rw [t] at e
        exact n6.1 (by rw [Option.some.inj e]; exact hx)
end
/-- only the links (next, prev) of the cells B, and the table's place i, have changed -/
def lf (B : List Nat) (t i : Nat) (G G' : GH) : Prop := cf (fun a => a ∈ B ∨ a = t) G G' ∧ (∀ x k, x ≠ t → k ≠ 3 → k ≠ 7 → hp_r G' x k = hp_r G x k) ∧ (∀ j, j ≠ i → hp_r G' t j = hp_r G t j) ∧ (∀ x k, hp_i G' x k = hp_i G x k) ∧ ∀ x, hp_l G' x = hp_l G x
def mv_P (G : GH) (t i r : Nat) (B : List Nat) (v : Option WV) (G' : GH) : Prop := v = none ∧ ∃ xs, (∀ x, x ∈ r :: xs ↔ x ∈ B) ∧ (r :: xs).Nodup ∧ hch G' (hp_r G' t i) (r :: xs) ∧ hpv G' none (r :: xs) ∧ lf B t i G G'
section
variable {w : WD} {d : Nat} {G : GH} {B : List Nat} {t i r k : Nat}
theorem lf.id0 : lf B t i G G := ⟨cf.rf, fun _ _ _ _ _ => rfl, fun _ _ => rfl, fun _ _ => rfl, fun _ => rfl⟩
theorem lf.tr {G1 G2 : GH} (h : lf B t i G G1) (h2 : lf B t i G1 G2) : lf B t i G G2 := ⟨h.1.tr h2.1, fun x k hx h3 h7 => (h2.2.1 x k hx h3 h7).trans (h.2.1 x k hx h3 h7), fun j hj => (h2.2.2.1 j hj).trans (h.2.2.1 j hj), fun x k => (h2.2.2.2.1 x k).trans (h.2.2.2.1 x k), fun x => (h2.2.2.2.2 x).trans (h.2.2.2.2 x)⟩
theorem lf.sR {G1 : GH} {a k : Nat} {v : Option Nat} (h : lf B t i G G1) (ha : a ∈ B) (hat : a ≠ t) (hk : k = 3 ∨ k = 7) : lf B t i G (hp_sR G1 a k v) := by
  refine ⟨h.1.sR (Or.inl (Or.inl ha)), fun x j hx h3 h7 => ?_, fun j hj => ?_, h.2.2.2.1, h.2.2.2.2⟩
  · rw [hp_r_sR]
    by_cases e : x = a
    · rw [if_pos e, if_neg (by omega)]; exact h.2.1 x j hx h3 h7
    · rw [if_neg e]; exact h.2.1 x j hx h3 h7
  · rw [hp_r_sR, if_neg (Ne.symm hat)]; exact h.2.2.1 j hj
theorem lf.sT {G1 : GH} {v : Option Nat} (h : lf B t i G G1) : lf B t i G (hp_sR G1 t i v) := by
  refine ⟨h.1.sR (Or.inl (Or.inr rfl)), fun x j hx h3 h7 => ?_, fun j hj => ?_, h.2.2.2.1, h.2.2.2.2⟩
  · rw [hp_r_sR, if_neg hx]; exact h.2.1 x j hx h3 h7
  · rw [hp_r_sR, if_pos rfl, if_neg hj]; exact h.2.2.1 j hj
theorem J26_moveRootToFront_C (kt : hp_kd G t = 35) (tA : hp_A w t) (ln : hp_ln G t = 2 ^ k) (hk : k ≤ 16) (hi : i = hix k (hp_i G r 0)) (hc : hch G (hp_r G t i) B) (hv : hpv G none B) (hr : r ∈ B) (hB : ∀ x ∈ B, hp_kd G x = 25 ∧ hp_A w x) (nd : B.Nodup) :
    wk_C w mJ26_moveRootToFront d 0 [vR (some t), vR (some r)] G (mv_P G t i r B) (fun _ _ _ => False) := by
  have hp2 : 2 ^ k ≤ 2 ^ 16 := Nat.pow_le_pow_right (by decide) hk
  have hp1 : 0 < 2 ^ k := Nat.two_pow_pos k
  have kr := (hB r hr).1
  have rA := (hB r hr).2
  have ei : (nI (2 ^ k) - 1) &&& hp_i G r 0 = nI i := by rw [hi]; exact hix_and (by omega)
  have il : i < 2 ^ k := by rw [hi]; exact hix_lt
  have ec : (nI i).toNatClampNeg = i := nI_clamp (by omega)
  have nt : ∀ x ∈ B, x ≠ t := fun x hx e => by have := (hB x hx).1; rw [e, kt] at this; cases this
  refine wk_C_of (by decide) rfl (Nat.le_of_ble_eq_true rfl) ?_
  refine blJ26_moveRootToFront_0 (fun e => by cases e) (fun _ _ => ?_)
  refine blJ26_moveRootToFront_4 (fun e => by cases e) (fun _ _ => ?_)
  refine blJ26_moveRootToFront_8 rfl (by rw [kt]; decide) (fun q => ?_) (fun _ => ?_)
  · rw [ln] at q
    exact absurd q (nI_nle hp1 (by omega))
  rw [ln]
  obtain ⟨l0, l2, e0⟩ := List.append_of_mem hr
  refine blJ26_moveRootToFront_15 rfl kr rfl (by rw [ei, ln]; exact vp_in_nI il (by omega)) (by rw [kt]; decide) (fun a ha => ?_) (fun q => ?_) (fun q => ?_)
  · rw [ei, ec] at ha
    cases B with
    | nil => cases hr
    | cons y ys =>
      have e : a = y := Option.some.inj (ha.symm.trans hc.1)
      rw [e, (hB y List.mem_cons_self).1]
      exact ⟨by decide, by decide, Or.inl rfl⟩
  · rw [ei, ec] at q
    refine blJ26_moveRootToFront_102 (fun _ => blJ26_moveRootToFront_123 ⟨rfl, ?_⟩) (fun e => absurd e (by decide))
    cases B with
    | nil => cases hr
    | cons y ys =>
      have e : r = y := Option.some.inj (q.trans hc.1)
      subst e
      exact ⟨ys, fun _ => Iff.rfl, nd, hc, hv, lf.id0⟩
  · rw [ei, ec] at q ⊢
    cases l0 with
    | nil =>
      subst e0
      exact absurd hc.1.symm q
    | cons b0 l1 =>
      have hb0 : hp_r G t i = some b0 := by subst e0; exact hc.1
      obtain ⟨z, hz⟩ : ∃ z, lst none (b0 :: l1) = some z := by
        cases e : lst none (b0 :: l1) with
        | some z => exact ⟨z, rfl⟩
        | none =>
          exfalso
          have key : ∀ (xs : List Nat) (y : Nat), lst (some y) xs ≠ none := by
            intro xs
            induction xs with
            | nil => intro y h; cases h
            | cons v vs ih => intro y h; exact ih v h
          exact key l1 b0 e
      have zm : z ∈ b0 :: l1 := (lst_mem _ _ z hz).elim (fun e => by cases e) id
      have zB : z ∈ B := by rw [e0]; exact List.mem_append_left _ zm
      have bB : b0 ∈ B := by rw [e0]; exact List.mem_append_left _ List.mem_cons_self
      have hv' := hv
      rw [e0] at hv'
      obtain ⟨v1, v2, v3⟩ := (hpv_app _ _ _).1 hv'
      rw [hz] at v2
      have hc' := hc
      rw [e0, ← hseg_ch] at hc'
      obtain ⟨m, c1, c2, c3⟩ := (hseg_app _ _ _ _).1 hc'
      have nd' := nd
      rw [e0] at nd'
      obtain ⟨n1, n2, n3⟩ := List.nodup_append.1 nd'
      have nzr : z ≠ r := n3 z zm r List.mem_cons_self
      have nbr : b0 ≠ r := n3 b0 List.mem_cons_self r List.mem_cons_self
      have rt := nt r hr
      rw [hb0]
      have e3 : hp_r (hp_sR G t i (some r)) r 3 = hp_r G r 3 := by rw [hp_r_sR, if_neg rt]
      have e7 : hp_r (hp_sR G t i (some r)) r 7 = some z := by rw [hp_r_sR, if_neg rt]; exact v2
      have g1 : lf B t i G (hp_sR G t i (some r)) := lf.id0.sT
      -- the end: from 68 on
      have fin : ∀ Gx, lf B t i G Gx → hp_r Gx t i = some r → (∀ x ∈ B, hp_r Gx x 3 = hp_r G x 3) → (∀ x ∈ B, hp_r Gx x 7 = if hp_r G r 3 = some x then some z else hp_r G x 7) → wk_V w mJ26_moveRootToFront (d, 0, mv_P G t i r B, (fun _ _ _ => False), hp_cs G, hp_ss G) 68 [(1, vR (some r)), (4, vR (some b0)), (5, vR (hp_r G r 3)), (6, vR (some z))] [] Gx 0 := by
        intro Gx hlf ht h3 h7
        have kx : ∀ x ∈ B, hp_kd Gx x = 25 := fun x hx => by rw [hlf.1.kd (by rw [(hB x hx).1]; decide)]; exact (hB x hx).1
        refine blJ26_moveRootToFront_68 (fun e => by cases e) (fun _ _ => ?_)
        refine blJ26_moveRootToFront_73 rfl (kx z zB) (hB z zB).2 ?_
        refine blJ26_moveRootToFront_80 (fun e => by cases e) (fun _ _ => ?_)
        refine blJ26_moveRootToFront_85 rfl (kx b0 bB) (hB b0 bB).2 ?_
        refine blJ26_moveRootToFront_91 rfl (kx r hr) rA ?_
        refine blJ26_moveRootToFront_102 (fun _ => blJ26_moveRootToFront_123 ⟨rfl, b0 :: l1 ++ l2, ?_⟩) (fun e => absurd e (by decide))
        have gl : lf B t i G (hp_sR (hp_sR (hp_sR (hp_sR Gx z 3 (hp_r G r 3)) b0 7 (some r)) r 3 (some b0)) r 7 none) := (((hlf.sR zB (nt z zB) (Or.inl rfl)).sR bB (nt b0 bB) (Or.inr rfl)).sR hr rt (Or.inl rfl)).sR hr rt (Or.inr rfl)
        have l3 : ∀ x ∈ B, hp_r (hp_sR (hp_sR (hp_sR (hp_sR Gx z 3 (hp_r G r 3)) b0 7 (some r)) r 3 (some b0)) r 7 none) x 3 = if x = r then some b0 else if x = z then hp_r G r 3 else hp_r G x 3 := fun x hx => by
          have a1 := h3 x hx
          simp only [hp_r_sR, a1]
          by_cases u1 : x = r
          · simp [u1]
          · by_cases u2 : x = z
            · simp [u2, nzr]
            · simp [u1, u2]
        have l7 : ∀ x ∈ B, hp_r (hp_sR (hp_sR (hp_sR (hp_sR Gx z 3 (hp_r G r 3)) b0 7 (some r)) r 3 (some b0)) r 7 none) x 7 = if x = r then none else if x = b0 then some r else if hp_r G r 3 = some x then some z else hp_r G x 7 := fun x hx => by
          have a1 := h7 x hx
          simp only [hp_r_sR, a1]
          by_cases u1 : x = r
          · simp [u1]
          · by_cases u2 : x = b0
            · simp [u2, nbr]
            · simp [u1, u2]
        have lt : hp_r (hp_sR (hp_sR (hp_sR (hp_sR Gx z 3 (hp_r G r 3)) b0 7 (some r)) r 3 (some b0)) r 7 none) t i = some r := by
          rw [hp_r_sR, if_neg rt.symm, hp_r_sR, if_neg rt.symm, hp_r_sR, if_neg (nt b0 bB).symm, hp_r_sR, if_neg (nt z zB).symm]
          exact ht
        generalize hp_sR (hp_sR (hp_sR (hp_sR Gx z 3 (hp_r G r 3)) b0 7 (some r)) r 3 (some b0)) r 7 none = G' at gl l3 l7 lt
        obtain ⟨q1, q2⟩ := mv_list e0 nd hc hv hz l3 l7
        have hm : ∀ x, x ∈ r :: (b0 :: l1 ++ l2) ↔ x ∈ B := fun x => by
          rw [e0]
          simp only [List.mem_cons, List.mem_append]
          constructor
          · rintro (u | (u | u) | u)
            · exact Or.inr (Or.inl u)
            · exact Or.inl (Or.inl u)
            · exact Or.inl (Or.inr u)
            · exact Or.inr (Or.inr u)
          · rintro ((u | u) | (u | u))
            · exact Or.inr (Or.inl (Or.inl u))
            · exact Or.inr (Or.inl (Or.inr u))
            · exact Or.inl u
            · exact Or.inr (Or.inr u)
        refine ⟨hm, ?_, by rw [lt]; exact q1, q2, gl⟩
        have n4 := List.nodup_cons.1 n2
        refine List.nodup_cons.2 ⟨fun u => ?_, List.nodup_append.2 ⟨n1, n4.2, fun x hx y hy => n3 x hx y (List.mem_cons_of_mem _ hy)⟩⟩
        rcases List.mem_append.1 u with u | u
        · exact n3 r u r List.mem_cons_self rfl
        · exact n4.1 u
      refine blJ26_moveRootToFront_38 rfl (by rw [ln]; exact vp_in_nI il (by omega)) tA (by rw [kt]; decide) (by rw [kt]; rfl) (fun b hb => ?_) rfl kr (fun hn => ?_) (fun y hy => ?_)
      · have eb : b = r := (Option.some.inj hb).symm
        rw [eb, kr]
        exact ⟨by decide, by decide, Or.inr (by decide)⟩
      · rw [ec] at hn ⊢
        rw [e3] at hn ⊢
        rw [e7]
        refine fin _ g1 (by rw [hp_r_sR, if_pos rfl, if_pos rfl]) (fun x hx => ?_) (fun x hx => ?_)
        · rw [hp_r_sR, if_neg (nt x hx)]
        · rw [hp_r_sR, if_neg (nt x hx), hn, if_neg (fun e => by cases e)]
      · rw [ec] at hy ⊢
        rw [e3] at hy ⊢
        rw [e7]
        have yl : y ∈ l2 := by
          cases l2 with
          | nil => have u : hp_r G r 3 = none := c3; rw [u] at hy; cases hy
          | cons y' ys =>
            have u : hp_r G r 3 = some y' := c3.1
            rw [u] at hy
            rw [Option.some.inj hy]
            exact List.mem_cons_self
        have yB : y ∈ B := by rw [e0]; exact List.mem_append_right _ (List.mem_cons_of_mem _ yl)
        have ky := (hB y yB).1
        refine blJ26_moveRootToFront_58 (fun b hb => ?_) hy (by rw [hp_kd_sR]; exact ky) (hB y yB).2 ?_
        · rw [hy] at hb
          have eb : b = y := (Option.some.inj hb).symm
          rw [eb, hp_kd_sR, ky]
          exact ⟨by decide, by decide, Or.inl rfl⟩
        · refine fin _ (g1.sR yB (nt y yB) (Or.inr rfl)) ?_ (fun x hx => ?_) (fun x hx => ?_)
          · rw [hp_r_sR, if_neg (nt y yB).symm, hp_r_sR, if_pos rfl, if_pos rfl]
          · rw [hp_r_sR, hp_r_sR, if_neg (nt x hx)]
            split
            · rw [if_neg (by decide)]
            · rfl
          · rw [hp_r_sR, hp_r_sR, if_neg (nt x hx)]
            by_cases ex : x = y
            · rw [if_pos ex, if_pos rfl, if_pos (by rw [ex]; exact hy)]
            · rw [if_neg ex, if_neg (fun u => ex (Option.some.inj (u.symm.trans hy)))]
end
