/-! HashMap: get -/
set_option maxRecDepth 100000
section
variable {w : WD} {d : Nat} {G : GH}
/-- what a map's search answers -/
def gn_P (w : WD) (G : GH) (a s key : Nat) (m : List Nat → Option Nat) (l : List Nat) (v : Option WV) (G' : GH) : Prop := (hm w G' a s m ∧ st w G' key l ∧ cf (fun x => x = key) G G') ∧ ((v = some (vR none) ∧ m l = none) ∨ ∃ x y, v = some (vR (some x)) ∧ (24 ≤ hp_kd G' x ∧ hp_kd G' x ≤ 25) ∧ hp_r G' x 2 = some y ∧ m l = some y)
theorem hm_none {m : List Nat → Option Nat} {l : List Nat} {B : List Nat} {Lf : Nat → List Nat} {Vf : Nat → Nat} (h : ∀ v, m l = some v ↔ ∃ x, x ∈ B ∧ Lf x = l ∧ Vf x = v) (h2 : ∀ x ∈ B, Lf x ≠ l) : m l = none := by
  cases e : m l with
  | none => rfl
  | some v =>
    obtain ⟨x, x1, x2, -⟩ := (h v).1 e
    exact absurd x2 (h2 x x1)
theorem hm_key {s a key : Nat} {m : List Nat → Option Nat} {l : List Nat} {G' : GH} (h : hm w G a s m) (hk : st w G key l) (hk' : st w G' key l) (hf : cf (fun x => x = key) G G') : hm w G' a s m := by
  have k1 := h.1.1
  have k2 : hp_kd G key = 26 := hk.1.1
  exact h.fr hf (st_keep hk' hk.1 hf) (fun e => by rw [e, k2] at k1; cases k1) (fun x _ hx e => by rw [e] at hx; omega)
theorem J7_getNode_C {a s key : Nat} {m : List Nat → Option Nat} {l : List Nat} (h : hm w G a s m) (hk : st w G key l) (hcmp : cmp_o w) (hd : 24 ≤ d) : wk_C w mJ7_getNode d 0 [vR (some a), vR (some key)] G (gn_P w G a s key m l) (fun _ _ _ => False) := by
  have k1 := h.1.1
  refine wk_C_of (by decide) rfl (Nat.le_of_ble_eq_true rfl) ?_
  refine blJ7_getNode_0 k1 (fun q => ?_) (fun t ht => ?_)
  · refine blJ7_getNode_148 ⟨⟨h, hk, cf.rf⟩, Or.inl ⟨rfl, ?_⟩⟩
    rcases h.2 with ⟨-, -, -, e⟩ | ⟨t, k, Lf, Vf, B, b1, -⟩
    · exact e l
    · rw [q] at b1; cases b1
  · rcases h.2 with ⟨e, -⟩ | ⟨t', k, Lf, Vf, B, b1, b2, b3, b4, b5, b6, b7⟩
    · rw [ht] at e; cases e
    · have et : t' = t := by rw [ht] at b1; exact (Option.some.inj b1).symm
      subst et
      have hp2 : 2 ^ k ≤ 2 ^ 16 := Nat.pow_le_pow_right (by decide) (by omega)
      have hp1 : 0 < 2 ^ k := Nat.two_pow_pos k
      refine blJ7_getNode_9 ht (by rw [b2.1]; decide) (fun q => ?_) (fun _ => ?_)
      · rw [b2.2.2.2.1] at q
        exact absurd q (nI_nle hp1 (by omega))
      · rw [ht, b2.2.2.2.1]
        refine blJ7_getNode_17 (J7_hash_C (d := 4) hk (Nat.le_refl 4)) (by show 4 + 1 ≤ d; omega) (Nat.zero_le _) ?_ (fun _ _ _ q => absurd q id)
        rintro v G1 ⟨rfl, hk1, hf⟩
        have h1 := hm_key h hk hk1 hf
        have kk : hp_kd G key = 26 := hk.1.1
        have b21 : htb w G1 a t' k Lf Vf B := b2.fr hf (st_keep hk1 hk.1 hf) (fun x _ hx e => by rw [e] at hx; omega)
        have hi := hix_lt (k := k) (h := hx l)
        have ei : (nI (2 ^ k) - 1) &&& hx l = nI (hix k (hx l)) := hix_and (by omega)
        have ec : ((nI (2 ^ k) - 1) &&& hx l).toNatClampNeg = hix k (hx l) := by rw [ei]; exact nI_clamp (by omega)
        obtain ⟨c1, c2, c3, c4⟩ := b21.2.2.2.2.1 _ hi
        have hml := b7 l
        generalize hBe : B (hix k (hx l)) = Bi at c1 c2 c3 c4 hml
        have out : ∀ v, gn_P w G a s key m l v G1 ↔ ((v = some (vR none) ∧ m l = none) ∨ ∃ x y, v = some (vR (some x)) ∧ (24 ≤ hp_kd G1 x ∧ hp_kd G1 x ≤ 25) ∧ hp_r G1 x 2 = some y ∧ m l = some y) := fun v => ⟨fun u => u.2, fun u => ⟨⟨h1, hk1, hf⟩, u⟩⟩
        have miss : (∀ x ∈ Bi, Lf x ≠ l) → gn_P w G a s key m l (some (vR none)) G1 := fun u => (out _).2 (Or.inl ⟨rfl, hm_none hml u⟩)
        have hit : ∀ x ∈ Bi, Lf x = l → gn_P w G a s key m l (some (vR (some x))) G1 := fun x hx e => by
          obtain ⟨n1, n2, n3, n4, n5, n6, n7⟩ := (c3 x hx).1
          exact (out _).2 (Or.inr ⟨x, Vf x, rfl, n1, n6, (hml _).2 ⟨x, hx, e, rfl⟩⟩)
        refine blJ7_getNode_26 rfl (by rw [ei, b21.2.2.2.1]; exact vp_in_nI hi (by omega)) (by rw [b21.1]; decide) (fun q => ?_) (fun x0 hx0 => ?_)
        · rw [ec] at q
          refine blJ7_getNode_148 (miss ?_)
          cases Bi with
          | nil => intro x hx; cases hx
          | cons y ys => have := c1.1; rw [q] at this; cases this
        · rw [ec] at hx0 ⊢
          rw [hx0] at c1 ⊢
          cases Bi with
          | nil => have : (some x0 : Option Nat) = none := c1; cases this
          | cons y ys =>
            have ey : x0 = y := Option.some.inj c1.1
            subst ey
            have c12 := c1.2
            -- what an equal hash leads to, at a node x
            obtain ⟨n1, n2, n3, n4, ⟨kx, n5, n6⟩, n7⟩ := (c3 x0 List.mem_cons_self).1
            have nl : Lf x0 ≠ l → wk_V w mJ7_getNode (d, 0, gn_P w G a s key m l, (fun _ _ _ => False), hp_cs G, hp_ss G) 71 [(1, vR (some key)), (3, vR (some x0)), (6, vI (hx l))] [] G1 0 := by
              intro hne
              refine blJ7_getNode_71 rfl n1 (fun q => ?_) (fun x1 hx1 => ?_)
              · refine blJ7_getNode_148 (miss ?_)
                rw [q] at c12
                cases ys with
                | nil => intro x hx; rw [List.mem_singleton.1 hx]; exact hne
                | cons z zs => have := c12.1; cases this
              · rcases c4 with c4 | ⟨r, xs, ps, lo, hi', e, p1, p2, p3⟩
                · have k0 := c4 x0 List.mem_cons_self
                  refine blJ7_getNode_81 (v1 := 0) (Or.inr ⟨x0, rfl, by rw [k0]; decide, by rw [k0]; decide, Or.inr ⟨rfl, by rw [k0]; decide +kernel⟩⟩) (fun _ => ?_) (fun q => absurd rfl q)
                  have loop : ∀ zs p, (∀ x ∈ zs, x ∈ x0 :: ys) → hch G1 (some p) zs → (∀ x ∈ x0 :: ys, x ∈ zs ∨ Lf x ≠ l) → wk_V w mJ7_getNode (d, 0, gn_P w G a s key m l, (fun _ _ _ => False), hp_cs G, hp_ss G) 99 [(1, vR (some key)), (4, vR (some p)), (6, vI (hx l))] [] G1 0 := by
                    intro zs
                    induction zs with
                    | nil => intro p _ hc _; have : (some p : Option Nat) = none := hc; cases this
                    | cons z zs ih =>
                      intro p hsub hc hall
                      have ep : p = z := Option.some.inj hc.1
                      subst ep
                      obtain ⟨m1, m2, m3, m4, ⟨kz, m5, m6⟩, m7⟩ := (c3 p (hsub p List.mem_cons_self)).1
                      have nx : Lf p ≠ l → wk_V w mJ7_getNode (d, 0, gn_P w G a s key m l, (fun _ _ _ => False), hp_cs G, hp_ss G) 137 [(1, vR (some key)), (4, vR (some p)), (6, vI (hx l))] [] G1 0 := by
                        intro hnp
                        refine blJ7_getNode_137 rfl m1 (fun q hq => ?_) (fun hq => ?_)
                        · rw [hq]
                          refine ih q (fun x hx => hsub x (List.mem_cons_of_mem _ hx)) (by rw [← hq]; exact hc.2) (fun x hx => ?_)
                          rcases hall x hx with u | u
                          · rcases List.mem_cons.1 u with v | v
                            · exact Or.inr (by rw [v]; exact hnp)
                            · exact Or.inl v
                          · exact Or.inr u
                        · refine blJ7_getNode_148 (miss (fun x hx => ?_))
                          have hc2 := hc.2
                          rw [hq] at hc2
                          rcases hall x hx with u | u
                          · rcases List.mem_cons.1 u with v | v
                            · rw [v]; exact hnp
                            · cases zs with
                              | nil => cases v
                              | cons z2 zs => have := hc2.1; cases this
                          · exact u
                      refine blJ7_getNode_99 rfl m1 (fun q => nx (fun e => q (by rw [m4, e]))) (fun _ => ?_)
                      refine blJ7_getNode_109 rfl m1 (fun q => ?_) (fun q => ?_)
                      · rw [m5] at q
                        have e : kz = key := Option.some.inj q
                        subst e
                        exact blJ7_getNode_134 (hit p (hsub p List.mem_cons_self) (m6.1.uq hk1.1))
                      · rw [m5]
                        refine blJ7_getNode_121 (fun v => by cases v) (fun o _ => ?_)
                        refine blJ7_getNode_125_k26 rfl hk1.1.1 (J13_equals_C (d := 1) hk1.1 m6.1 (Nat.le_refl 1)) (by show 1 + 1 ≤ d; omega) (Nat.zero_le _) ?_ (fun _ _ _ q => absurd q id)
                        rintro v G' ⟨rfl, rfl⟩
                        exact blJ7_getNode_131 (fun v0 => nx (fun e => lx_b0.1 v0 e.symm)) (fun v1 => blJ7_getNode_134 (hit p (hsub p List.mem_cons_self) (lx_b1 v1).symm))
                  rw [hx1] at c12 ⊢
                  exact loop ys x1 (fun x hx => List.mem_cons_of_mem _ hx) c12 (fun x hx => (List.mem_cons.1 hx).elim (fun u => Or.inr (by rw [u]; exact hne)) Or.inl)
                · have er : r = x0 := by rw [List.cons.injEq] at e; exact e.1.symm
                  subst er
                  have k0 := (p2.2 r List.mem_cons_self).1
                  refine blJ7_getNode_81 (v1 := 1) (Or.inr ⟨r, rfl, by rw [k0]; decide, by rw [k0]; decide, Or.inl ⟨rfl, by rw [k0]; exact Or.inl rfl⟩⟩) (fun q => absurd q (by decide)) (fun _ => ?_)
                  refine blJ7_getNode_88 (fun y hy => ?_) rfl k0 (J26_getTreeNode_C (d := 23) (fun x hx => (c3 x hx).1) p2 p3 hk1 hcmp (Nat.le_refl 23)) hd (Nat.zero_le _) ?_ (fun _ _ _ q => absurd q id)
                  · cases hy
                    rw [k0]
                    exact ⟨by decide, by decide, Or.inl rfl⟩
                  · rintro v G' ⟨rfl, u⟩
                    rcases u with ⟨x, x1, x2, rfl⟩ | ⟨x1, rfl⟩
                    · exact blJ7_getNode_98 (hit x x1 x2)
                    · exact blJ7_getNode_98 (miss x1)
            refine blJ7_getNode_36 rfl n1 (fun q => nl (fun e => q (by rw [n4, e]))) (fun _ => ?_)
            refine blJ7_getNode_45 rfl n1 (fun q => ?_) (fun q => ?_)
            · rw [n5] at q
              have e : kx = key := Option.some.inj q
              subst e
              exact blJ7_getNode_69 (hit x0 List.mem_cons_self (n6.1.uq hk1.1))
            · rw [n5]
              refine blJ7_getNode_56 (fun v => by cases v) (fun o _ => ?_)
              refine blJ7_getNode_60_k26 rfl hk1.1.1 (J13_equals_C (d := 1) hk1.1 n6.1 (Nat.le_refl 1)) (by show 1 + 1 ≤ d; omega) (Nat.zero_le _) ?_ (fun _ _ _ q => absurd q id)
              rintro v G' ⟨rfl, rfl⟩
              exact blJ7_getNode_66 (fun v0 => nl (fun e => lx_b0.1 v0 e.symm)) (fun v1 => blJ7_getNode_69 (hit x0 List.mem_cons_self (lx_b1 v1).symm))
theorem J7_get_C {a s key : Nat} {m : List Nat → Option Nat} {l : List Nat} (h : hm w G a s m) (hk : st w G key l) (hcmp : cmp_o w) (hd : 25 ≤ d) : wk_C w mJ7_get d 0 [vR (some a), vR (some key)] G (fun v G' => v = some (vR (m l)) ∧ hm w G' a s m ∧ st w G' key l ∧ cf (fun x => x = key) G G') (fun _ _ _ => False) := by
  refine wk_C_of (by decide) rfl (Nat.le_of_ble_eq_true rfl) ?_
  refine blJ7_get_0 h.1.1 (J7_getNode_C (d := 24) h hk hcmp (Nat.le_refl 24)) hd (Nat.zero_le _) ?_ (fun _ _ _ q => absurd q id)
  rintro v G' ⟨h1, ⟨rfl, e⟩ | ⟨x, y, rfl, x1, x2, x3⟩⟩
  · exact blJ7_get_5 (fun o q => by cases q) (fun _ => blJ7_get_10 (blJ7_get_18 ⟨by rw [e], h1⟩))
  · refine blJ7_get_5 (fun o _ => ?_) (fun q => by cases q)
    exact blJ7_get_14 rfl x1 (blJ7_get_18 ⟨by rw [x2, x3], h1⟩)
end
