/-! HashMap: hash, find in a tree -/
set_option maxRecDepth 100000
/-- OWED: String's compareTo (its vectorized comparison by Unsafe's natives) -/
def cmp_o (w : WD) : Prop := ∀ (d a b : Nat) (l m : List Nat) (G : GH), hp_sc G a l → hp_sc G b m → 20 ≤ d → wk_C w mJ13_compareTo d 0 [vR (some a), vR (some b)] G (fun v G' => v = some (vI (cmpI l m)) ∧ G' = G) (fun _ _ _ => False)
section
variable {w : WD} {d : Nat} {G : GH}
theorem J7_hash_C {key : Nat} {l : List Nat} (h : st w G key l) (hd : 4 ≤ d) : wk_C w mJ7_hash d 0 [vR (some key)] G (fun v G' => v = some (vI (hx l)) ∧ st w G' key l ∧ cf (fun x => x = key) G G') (fun _ _ _ => False) := by
  refine wk_C_of (by decide) rfl (Nat.le_of_ble_eq_true rfl) ?_
  refine blJ7_hash_0 (fun o _ => ?_) (fun q => by cases q)
  refine blJ7_hash_8_k26 rfl h.1.1 (J13_hashCode_C (d := 3) h (Nat.le_refl 3)) hd (Nat.zero_le _) ?_ (fun _ _ _ q => absurd q id)
  rintro v G' ⟨rfl, h1, h2⟩
  exact blJ7_hash_12 (blJ7_hash_19 ⟨rfl, h1, h2⟩)
theorem J7_comparableClassFor_C {key : Nat} (hk : hp_kd G key = 26) (hd : 1 ≤ d) : wk_C w mJ7_comparableClassFor d 0 [vR (some key)] G (fun v G' => v = some (vR (some (hp_mi w "java/lang/String"))) ∧ G' = G) (fun _ _ _ => False) := by
  refine wk_C_of (by decide) rfl (Nat.le_of_ble_eq_true rfl) ?_
  refine blJ7_comparableClassFor_0 (v1 := 1) (Or.inr ⟨key, rfl, by rw [hk]; decide, by rw [hk]; decide, Or.inl ⟨rfl, by rw [hk]; exact Or.inr (by decide)⟩⟩) (fun q => absurd q (by decide)) (fun _ => ?_)
  refine blJ7_comparableClassFor_7_26 rfl hd hk ?_
  exact blJ7_comparableClassFor_11 (fun q => absurd rfl q) (fun _ => blJ7_comparableClassFor_18 ⟨rfl, rfl⟩)
theorem J7_compareComparables_C {key kx : Nat} {l m : List Nat} (h : hp_sc G key l) (h2 : hp_sc G kx m) (hcmp : cmp_o w) (hd : 21 ≤ d) : wk_C w mJ7_compareComparables d 0 [vR (some (hp_mi w "java/lang/String")), vR (some key), vR (some kx)] G (fun v G' => v = some (vI (cmpI l m)) ∧ G' = G) (fun _ _ _ => False) := by
  refine wk_C_of (by decide) rfl (Nat.le_of_ble_eq_true rfl) ?_
  refine blJ7_compareComparables_0 (fun q => by cases q) (fun o _ => ?_)
  refine blJ7_compareComparables_4_26 rfl (by show 1 ≤ d; omega) h2.1 ?_
  refine blJ7_compareComparables_8 (fun _ => ?_) (fun q => absurd rfl q)
  refine blJ7_compareComparables_16 (fun y hy => ?_) rfl h.1 (hcmp 20 key kx l m G h h2 (Nat.le_refl 20)) hd (Nat.zero_le _) ?_ (fun _ _ _ q => absurd q id)
  · cases hy
    rw [h.1]
    exact ⟨by decide, by decide, Or.inr (by decide)⟩
  · rintro v G' ⟨rfl, rfl⟩
    exact blJ7_compareComparables_26 ⟨rfl, rfl⟩
/-- what a search in a tree answers -/
def fd_P (G : GH) (N : List Nat) (Lf : Nat → List Nat) (l : List Nat) (v : Option WV) (G' : GH) : Prop := G' = G ∧ ((∃ x, x ∈ N ∧ Lf x = l ∧ v = some (vR (some x))) ∨ ((∀ x ∈ N, Lf x ≠ l) ∧ v = some (vR none)))
theorem J26_find_C {a r0 key : Nat} {N : List Nat} {Lf : Nat → List Nat} {Vf : Nat → Nat} {ps lo hi : Nat → Nat} {l : List Nat} (hN : ∀ x ∈ N, hn w G a x (Lf x) (Vf x)) (hT : tr G N r0 ps lo hi) (ho : tro Lf N ps) (hk : st w G key l) (hcmp : cmp_o w) (hd : 22 ≤ d) :
    wk_C w mJ26_find d 0 [vR (some r0), vI (hx l), vR (some key), vR none] G (fd_P G N Lf l) (fun _ _ _ => False) := by
  refine wk_C_of (by decide) rfl (Nat.le_of_ble_eq_true rfl) ?_
  refine blJ26_find_0 ?_
  have gl := hk.gw
  have main : ∀ f p (kc : Option Nat), p ∈ N → hi p - lo p ≤ f → (∀ z ∈ N, Lf z = l → lo p < ps z ∧ ps z < hi p) → (kc = none ∨ kc = some (hp_mi w "java/lang/String")) → wk_V w mJ26_find (d, 0, fd_P G N Lf l, (fun _ _ _ => False), hp_cs G, hp_ss G) 3 [(1, vI (hx l)), (2, vR (some key)), (3, vR kc), (4, vR (some p))] [] G 0 := by
    intro f
    induction f with
    | zero =>
      intro p kc hp hf
      have := (hT.2 p hp).2.1
      omega
    | succ f ih =>
      intro p kc hp hf hinv hkc
      have tp := hT.2 p hp
      have hwp := tp.2.1
      obtain ⟨n1, n2, n3, n4, ⟨kx, n5, n6⟩, n7⟩ := hN p hp
      have gp := n6.gw
      have goL : ∀ kc, (kc = none ∨ kc = some (hp_mi w "java/lang/String")) → (∀ z ∈ N, Lf z = l → z ≠ p ∧ ¬ ps p < ps z) → wk_V w mJ26_find (d, 0, fd_P G N Lf l, (fun _ _ _ => False), hp_cs G, hp_ss G) 165 [(1, vI (hx l)), (2, vR (some key)), (3, vR kc), (4, vR (hp_r G p 5))] [] G 0 := by
        intro kc hkc hz
        refine blJ26_find_165 (fun b hb => ?_) (fun hb => blJ26_find_170 ⟨rfl, Or.inr ⟨fun z hzN e => ?_, rfl⟩⟩)
        · obtain ⟨b1, b2, b3, b4⟩ := tp.2.2.1 b hb
          rw [hb]
          refine ih b kc b1 (by omega) (fun z hzN e => ?_) hkc
          obtain ⟨z1, z2⟩ := hz z hzN e
          obtain ⟨z3, z4⟩ := hinv z hzN e
          have : ps z ≠ ps p := fun u => z1 ((ho z hzN p hp).2 u)
          omega
        · obtain ⟨z1, z2⟩ := hz z hzN e
          obtain ⟨z3, z4⟩ := hinv z hzN e
          rcases hT.sub hzN hp z3 z4 with u | ⟨b, u, -⟩ | ⟨b, -, -, -, -, u⟩
          · exact z1 u
          · rw [hb] at u; cases u
          · exact z2 u
      have goR : ∀ kc, (kc = none ∨ kc = some (hp_mi w "java/lang/String")) → (∀ z ∈ N, Lf z = l → z ≠ p ∧ ¬ ps z < ps p) → wk_V w mJ26_find (d, 0, fd_P G N Lf l, (fun _ _ _ => False), hp_cs G, hp_ss G) 165 [(1, vI (hx l)), (2, vR (some key)), (3, vR kc), (4, vR (hp_r G p 6))] [] G 0 := by
        intro kc hkc hz
        refine blJ26_find_165 (fun b hb => ?_) (fun hb => blJ26_find_170 ⟨rfl, Or.inr ⟨fun z hzN e => ?_, rfl⟩⟩)
        · obtain ⟨b1, b2, b3, b4⟩ := tp.2.2.2.1 b hb
          rw [hb]
          refine ih b kc b1 (by omega) (fun z hzN e => ?_) hkc
          obtain ⟨z1, z2⟩ := hz z hzN e
          obtain ⟨z3, z4⟩ := hinv z hzN e
          have : ps z ≠ ps p := fun u => z1 ((ho z hzN p hp).2 u)
          omega
        · obtain ⟨z1, z2⟩ := hz z hzN e
          obtain ⟨z3, z4⟩ := hinv z hzN e
          rcases hT.sub hzN hp z3 z4 with u | ⟨b, -, -, -, -, u⟩ | ⟨b, u, -⟩
          · exact z1 u
          · exact z2 u
          · rw [hb] at u; cases u
      refine blJ26_find_3 rfl tp.1 (fun q => ?_) (fun q => ?_)
      · rw [n4] at q ⊢
        refine blJ26_find_36 (fun q2 => ?_) (fun q2 => ?_)
        · have hh : hx (Lf p) = hx l := Int32.le_antisymm q q2
          refine blJ26_find_49 rfl tp.1 (fun u => ?_) (fun u => ?_)
          · rw [n5] at u
            have e : kx = key := Option.some.inj u
            subst e
            exact blJ26_find_74 ⟨rfl, Or.inl ⟨p, hp, n6.1.uq hk.1, rfl⟩⟩
          · rw [n5]
            refine blJ26_find_61 (fun v => by cases v) (fun o _ => ?_)
            refine blJ26_find_65_k26 rfl hk.1.1 (J13_equals_C (d := 1) hk.1 n6.1 (Nat.le_refl 1)) (by show 1 + 1 ≤ d; omega) (Nat.zero_le _) ?_ (fun _ _ _ q => absurd q id)
            rintro v G' ⟨rfl, rfl⟩
            refine blJ26_find_71 (fun v0 => ?_) (fun v1 => blJ26_find_74 ⟨rfl, Or.inl ⟨p, hp, (lx_b1 v1).symm, rfl⟩⟩)
            have hne : ¬ l = Lf p := lx_b0.1 v0
            have hzp : ∀ z ∈ N, Lf z = l → z ≠ p := fun z _ e u => hne (by rw [← u]; exact e.symm)
            refine blJ26_find_77 (fun bl hbl => ?_) (fun hbl => blJ26_find_82 (goR kc hkc (fun z hzN e => ⟨hzp z hzN e, fun u => ?_⟩)))
            · refine blJ26_find_89 (fun br hbr => ?_) (fun hbr => blJ26_find_94 (goL kc hkc (fun z hzN e => ⟨hzp z hzN e, fun u => ?_⟩)))
              · have fin : wk_V w mJ26_find (d, 0, fd_P G' N Lf l, (fun _ _ _ => False), hp_cs G', hp_ss G') 114 [(1, vI (hx l)), (2, vR (some key)), (3, vR (some (hp_mi w "java/lang/String"))), (7, vR (some kx)), (8, vR (hp_r G' p 5)), (9, vR (hp_r G' p 6))] [] G' 0 := by
                  refine blJ26_find_114 (J7_compareComparables_C (d := 21) hk.1 n6.1 hcmp (Nat.le_refl 21)) hd (Nat.zero_le _) ?_ (fun _ _ _ q => absurd q id)
                  rintro v G2 ⟨rfl, rfl⟩
                  refine blJ26_find_121 (fun v0 => absurd (cmpI_0 gl gp v0) hne) (fun vn => ?_)
                  refine blJ26_find_127 (fun vp => blJ26_find_137 (blJ26_find_139 (goR _ (Or.inr rfl) (fun z hzN e => ⟨hzp z hzN e, fun u => ?_⟩)))) (fun vm => blJ26_find_132 (blJ26_find_139 (goL _ (Or.inr rfl) (fun z hzN e => ⟨hzp z hzN e, fun u => ?_⟩))))
                  · have := (ho z hzN p hp).1 u
                    rw [e] at this
                    rcases this with t | ⟨-, t⟩
                    · rw [hh, Int32.lt_iff_toInt_lt] at t; omega
                    · exact absurd t (Int32.not_lt.2 vp)
                  · have := (ho p hp z hzN).1 u
                    rw [e] at this
                    rcases this with t | ⟨-, t⟩
                    · rw [hh, Int32.lt_iff_toInt_lt] at t; omega
                    · have t1 := (cmpI_lt gp gl).1 t
                      have t2 := (cmpI_lt gl gp).1 (Int32.not_le.1 vm)
                      have := cmpZ_anti l (Lf p)
                      omega
                refine blJ26_find_101 (fun o ho' => ?_) (fun hk0 => ?_)
                · rcases hkc with e | e
                  · rw [e] at ho'; cases ho'
                  · rw [e]; exact fin
                · refine blJ26_find_105 (J7_comparableClassFor_C (d := 1) hk.1.1 (Nat.le_refl 1)) (by show 1 + 1 ≤ d; omega) (Nat.zero_le _) ?_ (fun _ _ _ q => absurd q id)
                  rintro v G2 ⟨rfl, rfl⟩
                  exact blJ26_find_109 (fun q => by cases q) (fun _ _ => fin)
              · obtain ⟨z3, z4⟩ := hinv z hzN e
                rcases hT.sub hzN hp z3 z4 with t | ⟨b, -, -, -, -, t⟩ | ⟨b, t, -⟩
                · exact hzp z hzN e t
                · omega
                · rw [hbr] at t; cases t
            · obtain ⟨z3, z4⟩ := hinv z hzN e
              rcases hT.sub hzN hp z3 z4 with t | ⟨b, t, -⟩ | ⟨b, -, -, -, -, t⟩
              · exact hzp z hzN e t
              · rw [hbl] at t; cases t
              · omega
        · refine blJ26_find_42 (goR kc hkc (fun z hzN e => ⟨fun u => ?_, fun u => ?_⟩))
          · rw [← u, e] at q2
            exact q2 (Int32.le_refl _)
          · have := (ho z hzN p hp).1 u
            rw [e] at this
            rcases this with t | ⟨t, -⟩
            · exact q2 (Int32.le_of_lt t)
            · rw [t] at q2; exact q2 (Int32.le_refl _)
      · rw [n4] at q
        refine blJ26_find_29 (goL kc hkc (fun z hzN e => ⟨fun u => ?_, fun u => ?_⟩))
        · rw [← u, e] at q
          exact q (Int32.le_refl _)
        · have := (ho p hp z hzN).1 u
          rw [e] at this
          rcases this with t | ⟨t, -⟩
          · exact q (Int32.le_of_lt t)
          · rw [t] at q; exact q (Int32.le_refl _)
  exact main (hi r0 - lo r0) r0 none hT.1.1 (Nat.le_refl _) (fun z hz _ => hT.all hz) (Or.inl rfl)
theorem J26_getTreeNode_C {a r0 key : Nat} {N : List Nat} {Lf : Nat → List Nat} {Vf : Nat → Nat} {ps lo hi : Nat → Nat} {l : List Nat} (hN : ∀ x ∈ N, hn w G a x (Lf x) (Vf x)) (hT : tr G N r0 ps lo hi) (ho : tro Lf N ps) (hk : st w G key l) (hcmp : cmp_o w) (hd : 23 ≤ d) :
    wk_C w mJ26_getTreeNode d 0 [vR (some r0), vI (hx l), vR (some key)] G (fd_P G N Lf l) (fun _ _ _ => False) := by
  have k1 := (hT.2 r0 hT.1.1).1
  refine wk_C_of (by decide) rfl (Nat.le_of_ble_eq_true rfl) ?_
  refine blJ26_getTreeNode_0 k1 (fun _ => ?_) (fun o q => by rw [hT.1.2.1] at q; cases q)
  refine blJ26_getTreeNode_14 (blJ26_getTreeNode_15 rfl k1 (J26_find_C (d := 22) hN hT ho hk hcmp (Nat.le_refl 22)) hd (Nat.zero_le _) ?_ (fun _ _ _ q => absurd q id))
  rintro v G' ⟨rfl, h⟩
  rcases h with ⟨x, x1, x2, rfl⟩ | ⟨x1, rfl⟩
  · exact blJ26_getTreeNode_21 ⟨rfl, Or.inl ⟨x, x1, x2, rfl⟩⟩
  · exact blJ26_getTreeNode_21 ⟨rfl, Or.inr ⟨x1, rfl⟩⟩
end
