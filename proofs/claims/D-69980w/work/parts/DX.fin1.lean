/-! THE COMPONENT's PARSER: finish, the left sides get their Equations -/
set_option maxRecDepth 100000
section
variable {R : GH → Prop} {q : PZ} {S S' : MS} {X : Nat → Nat} {G G' G00 : GH} {c c' k0 t L Lv hv cv Le ce : Nat} {Q : Nat → Nat}
/-- the variable v, whose Equation is F -/
def vxb (q : PZ) (S : MS) (G : GH) (v : Nat) (F : Option Nat) : Prop := (hp_kd G (qV q v) = 6 ∧ hp_A q.1.1 (qV q v)) ∧ (∃ nm, hp_r G (qV q v) 0 = some nm ∧ st q.1.1 G nm (nlv (rz_T q.1) S v)) ∧ hp_r G (qV q v) 1 = ty q.1.1 (S.2 24 v) ∧ hp_i G (qV q v) 2 = qK q v ∧ (hp_i G (qV q v) 3 = nI (v - pr_a S) ∧ hp_r G (qV q v) 5 = F) ∧ ∃ b, hp_r G (qV q v) 4 = some b ∧ bt q.1.1 (qV q) (pr_a S) G b (S.2 22 v) (md_dep S (pr_a S) (v + 1) v)
theorem vx.b {v : Nat} (h : vx q S G v) : vxb q S G v none := h
theorem vxb.s5 {v y : Nat} {F e : Option Nat} (h : vxb q S G v F) (hy : hp_kd G y = 6) : vxb q S (hp_sR G y 5 e) v (if qV q v = y then e else F) := by
  have f : cf (fun a => a = y) G (hp_sR G y 5 e) := cf.rf.sR (Or.inl rfl)
  have x := rx_of (z := q.1) f (fun a u => by rw [u, hy]; exact ⟨by decide, by decide⟩)
  obtain ⟨⟨h1, h2⟩, ⟨nm, h3, h4⟩, h5, h6, ⟨h7, h7'⟩, b, h8, h9⟩ := h
  have r : ∀ k, k ≠ 5 → hp_r (hp_sR G y 5 e) (qV q v) k = hp_r G (qV q v) k := fun k hk => by
    rw [hp_r_sR]
    by_cases u : qV q v = y
    · rw [if_pos u, if_neg hk, u]
    · rw [if_neg u]
  refine ⟨⟨h1, h2⟩, ⟨nm, by rw [r 0 (by decide)]; exact h3, x.2.2 _ _ h4⟩, by rw [r 1 (by decide)]; exact h5, h6, ⟨h7, ?_⟩, b, by rw [r 4 (by decide)]; exact h8, ?_⟩
  · rw [hp_r_sR]
    by_cases u : qV q v = y
    · rw [if_pos u, if_pos rfl, if_pos u]
    · rw [if_neg u, if_neg u]; exact h7'
  · rcases h9 with h9 | ⟨k, s, a1, a2, a3, k4, k5, k6, k7⟩
    · exact Or.inl h9
    · have nb : ¬ b = y := fun u => by rw [u, hy] at k4; cases k4
      exact Or.inr ⟨k, s, a1, a2, a3, k4, by rw [f.r (by rw [k4]; decide) nb]; exact k5, k6, k7⟩
/-- variables' objects differ -/
theorem vxb.inj {v v' : Nat} {F F' : Option Nat} (h : vxb q S G v F) (h' : vxb q S G v' F') (ha : pr_a S ≤ v ∧ pr_a S ≤ v') (hb : v < 2 ^ 30 ∧ v' < 2 ^ 30) (e : qV q v = qV q v') : v = v' := by
  have e1 := h.2.2.2.2.1.1
  have e2 := h'.2.2.2.2.1.1
  rw [e, e2] at e1
  have := (nI_eq (by omega) (by omega)).1 e1
  omega
/-- what finish knows: the left sides up to the number p have their Equations -/
def fnI (R : GH → Prop) (q : PZ) (Q : Nat → Nat) (k0 : Nat) (Lf : Nat → Nat) (p : Nat) (S : MS) (X : Nat → Nat) (G00 G : GH) (Lv hv cv Le ce : Nat) (I : Nat → Int32) : Prop :=
  (((kc q.1.1 G ∧ R G) ∧ hp_i G (qn q) = I) ∧ rb q.1 G) ∧ (hp_kd G (qn q) = 8 ∧ hp_A q.1.1 (qn q) ∧ hp_r G q.1.2.1 10 = some (qn q)) ∧ eqL q Q k0 S X G00 G Le ce ∧ nvs q S (pr_v S) G00 G Lv hv cv ∧ (rx q.1 no9 G00 G ∧ rkk q.1 G00 G) ∧
  ∃ F : Nat → Option Nat, (∀ v, pr_a S ≤ v → v < pr_v S → vxb q S G v (F v)) ∧ (∀ v, pr_a S ≤ v → v < pr_v S → (∀ j, Lf k0 ≤ j → j < p → pr_a S + jg_v S j ≠ v) → F v = none) ∧ (∀ k j, k0 ≤ k → k < pr_k S → Lf k ≤ j → j < Lf (k + 1) → j < p → F (pr_a S + jg_v S j) = some (Q k)) ∧ ∀ j j', Lf k0 ≤ j → j < j' → j' < p → jg_v S j ≠ jg_v S j'
/-- a left side gets its Equation -/
theorem fnI.s5 (hRc : ∀ G y e, hp_kd G y = 6 → R G → R (hp_sR G y 5 e)) {I : Nat → Int32} {Lf : Nat → Nat} {p k : Nat} (h : fnI R q Q k0 Lf p S X G00 G Lv hv cv Le ce I) (hk : k0 ≤ k ∧ k < pr_k S) (hp : Lf k ≤ p ∧ p < Lf (k + 1)) (hm : ∀ x, k0 ≤ x → x < pr_k S → Lf x < Lf (x + 1)) (hvv : pr_a S + jg_v S p < pr_v S) (hv2 : pr_v S ≤ 6000) (h5 : hp_r G (qV q (pr_a S + jg_v S p)) 5 = none) : fnI R q Q k0 Lf (p + 1) S X G00 (hp_sR G (qV q (pr_a S + jg_v S p)) 5 (some (Q k))) Lv hv cv Le ce I := by
  obtain ⟨⟨a1, a2⟩, ⟨b1, b2, b3⟩, hL, ⟨n1, n2, n3, n4, n5⟩, ⟨f0, k00⟩, F, hF, hF1, hF2, hF3⟩ := h
  have hv0 := hF _ (Nat.le_add_right _ _) hvv
  have ky := hv0.1.1
  have hy0 := n3.2.2.2 _ (Nat.le_add_right _ _) hvv
  have eF : F (pr_a S + jg_v S p) = none := by rw [← hv0.2.2.2.2.1.2]; exact h5
  generalize hv' : pr_a S + jg_v S p = v at hv0 ky hy0 eF hvv h5
  have hav : pr_a S ≤ v := by omega
  have kR := a2.1.1
  have kB := a2.2.1.1
  have f : cf (fun a => a = qV q v) G (hp_sR G (qV q v) 5 (some (Q k))) := cf.rf.sR (Or.inl rfl)
  have x : rx q.1 (fun a => a = qV q v) G (hp_sR G (qV q v) 5 (some (Q k))) := rx_of f (fun a u => by rw [u, ky]; exact ⟨by decide, by decide⟩)
  have nR : ¬ q.1.2.1 = qV q v := fun u => by rw [u, ky] at kR; cases kR
  have nT : ¬ q.1.2.2.1 = qV q v := fun u => by have := a2.2.2.1.1; rw [u, ky] at this; cases this
  have nn : ¬ qn q = qV q v := fun u => by rw [u, ky] at b1; cases b1
  have kn0 : hp_kd G (qn q) ≠ 0 := by rw [b1]; decide
  have kR0 : hp_kd G q.1.2.1 ≠ 0 := by rw [kR]; decide
  have al6 : ∀ {a n c : Nat} {e : Nat → Option Nat}, al q.1.1 G a n c e → al q.1.1 (hp_sR G (qV q v) 5 (some (Q k))) a n c e := fun u => u.fr f (fun w => by have := u.1.1; rw [w, ky] at this; cases this) (fun y _ hy w => by rw [w, ky] at hy; cases hy)
  obtain ⟨⟨l1, l2, l3, l4⟩, l5⟩ := hL
  refine ⟨⟨⟨⟨a1.1.1.fr2 f x.2.1 (fun y u => by rw [u, ky]; decide), hRc _ _ _ ky a1.1.2⟩, (f.i kn0 nn).trans a1.2⟩, a2.fr f nR nT⟩, ⟨b1, b2, by rw [f.r kR0 nR]; exact b3⟩, ⟨⟨by rw [f.r kn0 nn]; exact l1, l2, l3, al6 l4⟩, fun k' u1 u2 => (l5 k' u1 u2).rx x kR kB (fun y u => by
    rw [u, ky]
    refine ⟨by decide, fun L w1 w2 w3 => ?_⟩
    rcases w3 with w3 | ⟨-, w3⟩
    · rw [← w3, ky] at w2; cases w2
    · rw [ky] at w3; cases w3)⟩, ⟨by rw [f.r kn0 nn]; exact n1, by rw [f.r kn0 nn]; exact n2, n3, n4, al6 n5⟩, ⟨f0.tr x (fun y hy u => absurd hy0 (by rw [← u]; exact hy)), fun k' hk' => by rw [f.r kR0 nR]; exact k00 k' hk'⟩, fun v' => if v' = v then some (Q k) else F v', fun v' u1 u2 => ?_, fun v' u1 u2 u3 => ?_, fun k' j u1 u2 u3 u4 u5 => ?_, fun j j' u1 u2 u3 => ?_⟩
  · have g := (hF v' u1 u2).s5 (y := qV q v) (e := some (Q k)) ky
    by_cases u : v' = v
    · rw [u, if_pos rfl] at g
      rw [u]
      show vxb q S _ v (if v = v then some (Q k) else F v)
      rw [if_pos rfl]
      exact g
    · rw [if_neg (fun w => u ((hF v' u1 u2).inj hv0 ⟨u1, hav⟩ ⟨by omega, by omega⟩ w))] at g
      show vxb q S _ v' (if v' = v then some (Q k) else F v')
      rw [if_neg u]
      exact g
  · have hne : v' ≠ v := fun w => u3 p (by
      have := mono_k (P := Lf) (q := k0) (q' := pr_k S) hm (k - k0) k0 (Nat.le_refl _) (by omega)
      rw [show k0 + (k - k0) = k by omega] at this
      omega) (by omega) (by rw [hv', w])
    show (if v' = v then some (Q k) else F v') = none
    rw [if_neg hne]
    exact hF1 v' u1 u2 (fun j w1 w2 => u3 j w1 (by omega))
  · show (if pr_a S + jg_v S j = v then some (Q k) else F (pr_a S + jg_v S j)) = some (Q k')
    by_cases ej : j = p
    · have ek : k' = k := by
        rcases Nat.lt_trichotomy k' k with w | w | w
        · have := mono_k (P := Lf) (q := k0) (q' := pr_k S) hm (k - (k' + 1)) (k' + 1) (by omega) (by omega)
          rw [show k' + 1 + (k - (k' + 1)) = k by omega] at this
          omega
        · exact w
        · have := mono_k (P := Lf) (q := k0) (q' := pr_k S) hm (k' - (k + 1)) (k + 1) (by omega) (by omega)
          rw [show k + 1 + (k' - (k + 1)) = k' by omega] at this
          omega
      rw [ej, hv', if_pos rfl, ek]
    · have g := hF2 k' j u1 u2 u3 u4 (by omega)
      rw [if_neg (fun w => by rw [w, eF] at g; cases g)]
      exact g
  · by_cases ej : j' = p
    · intro e
      have mo : ∀ b, k0 ≤ b → b ≤ pr_k S → Lf k0 ≤ Lf b := fun b w1 w2 => by
        have := mono_k (P := Lf) (q := k0) (q' := pr_k S) hm (b - k0) k0 (Nat.le_refl _) (by omega)
        rw [show k0 + (b - k0) = b by omega] at this
        exact this
      obtain ⟨k', z1, z2, z3, z4⟩ := loc_k (P := Lf) (e := j) (k + 1 - k0) k0 u1 (by rw [show k0 + (k + 1 - k0) = k + 1 by omega]; omega)
      have g := hF2 k' j z1 (by omega) z3 z4 (by omega)
      rw [e, ej, hv', eF] at g
      cases g
    · exact hF3 j j' u1 u2 (by omega)
end
