/-! THE COMPONENT's finish: types; what the methods owe -/
set_option maxRecDepth 100000
section
variable {S : MS} {b outs : Nat}
theorem jg_ty_add {m2 : Nat} : ∀ m A e, jg_ty S b outs (m + m2) A e = match jg_ty S b outs m A e with
    | .inl k => .inl k
    | .inr A1 => jg_ty S b outs m2 A1 (e + m) := by
  intro m
  induction m with
  | zero => intro A e; rw [Nat.zero_add]; rfl
  | succ m ih =>
    intro A e
    rw [show m + 1 + m2 = (m + m2) + 1 by omega, jg_ty, jg_ty]
    cases h : jt S A e (kls S e) (if e = b then outs else 1) with
    | inl k => rfl
    | inr t =>
      show jg_ty S b outs (m + m2) (jg_up A e t) (e + 1) = _
      rw [ih]
      rw [show e + (m + 1) = e + 1 + m by omega]
theorem jg_ty_go {m m2 e : Nat} {A A1 : Nat → Int32} (h : jg_ty S b outs m A e = .inr A1) : jg_ty S b outs (m + m2) A e = jg_ty S b outs m2 A1 (e + m) := by
  rw [jg_ty_add, h]
theorem jg_ty_no {m e k : Nat} {kd : Int32} {A : Nat → Int32} (h : jg_ty S b outs m A e = .inl kd) (hk : m ≤ k) : jg_ty S b outs k A e = .inl kd := by
  rw [show k = m + (k - m) by omega, jg_ty_add, h]
theorem jg_ty_1 {e : Nat} {A : Nat → Int32} : jg_ty S b outs 1 A e = match jt S A e (kls S e) (if e = b then outs else 1) with
    | .inl k => .inl k
    | .inr t => .inr (jg_up A e t) := by
  rw [jg_ty]
  cases jt S A e (kls S e) (if e = b then outs else 1) <;> rfl
end
section
variable {q : PZ} {S : MS} {X : Nat → Nat} {lo hi b outs n : Nat} {G G0 G' : GH} {A A0 : Nat → Int32}
/-- type's end -/
def tyP (q : PZ) (S : MS) (X : Nat → Nat) (b outs : Nat) (A : Nat → Int32) (e : Nat) (G : GH) (v : Option WV) (G' : GH) : Prop := ∃ A', jg_ty S b outs (e + 1 - lw (S.2 34) e) A (lw (S.2 34) e) = .inr A' ∧ (A' e = 0 ∨ A' e = 1) ∧ v = some (vR (ty q.1.1 (A' e))) ∧ hp_r G' (X e) 0 = ty q.1.1 (A' e) ∧ tf X (lw (S.2 34) e) (e + 1) G G'
def tyX (q : PZ) (S : MS) (X : Nat → Nat) (b outs : Nat) (A : Nat → Int32) (e : Nat) (G : GH) (E : String) (a : Nat) (G' : GH) : Prop := ∃ kd, jg_ty S b outs (e + 1 - lw (S.2 34) e) A (lw (S.2 34) e) = .inl kd ∧ wx q X (lw (S.2 34) e) (e + 1) G kd E a G'
/-- typed's end -/
def tdP (q : PZ) (S : MS) (X : Nat → Nat) (b outs : Nat) (A : Nat → Int32) (e : Nat) (G : GH) (v : Option WV) (G' : GH) : Prop := ∃ A' t, jg_ty S b outs (e - lw (S.2 34) e) A (lw (S.2 34) e) = .inr A' ∧ jt S A' e (kls S e) (if e = b then outs else 1) = .inr t ∧ (t = 0 ∨ t = 1) ∧ v = some (vR (ty q.1.1 t)) ∧ tf X (lw (S.2 34) e) e G G'
/-- among the parts: those of ds have been looked at; the next begins at l -/
def tyS (q : PZ) (S : MS) (X : Nat → Nat) (b outs l0 : Nat) (A0 : Nat → Int32) (G0 : GH) (ds : List Nat) (l : Nat) (A : Nat → Int32) (G : GH) : Prop := l0 ≤ l ∧ jg_ty S b outs (l - l0) A0 l0 = .inr A ∧ tf X l0 l G0 G ∧ ∀ k ∈ ds, l0 ≤ k ∧ k < l ∧ (A k = 0 ∨ A k = 1) ∧ hp_r G (X k) 0 = ty q.1.1 (A k)
theorem tyS.z {l0 : Nat} : tyS q S X b outs l0 A0 G0 [] l0 A0 G0 := ⟨Nat.le_refl _, by rw [Nat.sub_self]; rfl, tf.rf, fun k hk => by cases hk⟩
theorem tyS.step {l0 l k : Nat} {ds : List Nat} {v : Option WV} (hw : tw q lo hi S X G) (hpw : pw S lo hi) (hh : hi ≤ 5000) (hlo : lo ≤ l0) (h : tyS q S X b outs l0 A0 G0 ds l A G) (hl : lw (S.2 34) k = l) (hlk : l ≤ k) (hk : k < hi) (hP : tyP q S X b outs A k G v G') :
    ∃ A', v = some (vR (ty q.1.1 (A' k))) ∧ (A' k = 0 ∨ A' k = 1) ∧ tyS q S X b outs l0 A0 G0 (ds ++ [k]) (k + 1) A' G' ∧ ∀ j ∈ ds, A' j = A j := by
  obtain ⟨h1, h2, h3, h4⟩ := h
  obtain ⟨A', p1, p2, p3, p4, p5⟩ := hP
  rw [hl] at p1 p5
  have hfix := jg_ty_fix _ _ _ _ (fun x x1 x2 => (hpw x (by omega) (by omega)).2.kids (by omega)) p1
  refine ⟨A', p3, p2, ⟨by omega, ?_, (h3.mono (Nat.le_refl _) (by omega : l ≤ k + 1)).tr p5 h1 (Nat.le_refl _), fun j hj => ?_⟩, fun j hj => hfix.1 j (Or.inl (h4 j hj).2.1)⟩
  · rw [show k + 1 - l0 = (l - l0) + (k + 1 - l) by omega, jg_ty_go h2, show l0 + (l - l0) = l by omega]
    exact p1
  · rcases List.mem_append.1 hj with hj | hj
    · obtain ⟨j1, j2, j3, j4⟩ := h4 j hj
      rw [hfix.1 j (Or.inl j2)]
      refine ⟨j1, by omega, j3, ?_⟩
      have kj := hw.k (e := j) (by omega) (by omega)
      rw [p5.r (by omega) (fun e u1 u2 => hw.inj (by omega) (by omega) (by omega) (by omega) (by omega))]
      exact j4
    · rw [List.mem_singleton.1 hj]
      exact ⟨by omega, by omega, p2, p4⟩
theorem tyS.err {l0 l k e a : Nat} {ds : List Nat} {E : String} (h : tyS q S X b outs l0 A0 G0 ds l A G) (hl : lw (S.2 34) k = l) (hlk : l ≤ k) (hk : k < e) (hP : tyX q S X b outs A k G E a G') : ∃ kd, jg_ty S b outs (e + 1 - l0) A0 l0 = .inl kd ∧ wx q X l0 (e + 1) G0 kd E a G' := by
  obtain ⟨h1, h2, h3, h4⟩ := h
  obtain ⟨kd, p1, p2⟩ := hP
  rw [hl] at p1 p2
  refine ⟨kd, jg_ty_no (m := (l - l0) + (k + 1 - l)) ?_ (by omega), p2.up (h3.mono (Nat.le_refl _) (by omega)) h1 (by omega)⟩
  rw [jg_ty_go h2, show l0 + (l - l0) = l by omega]
  exact p1
theorem tyS.bad {l0 e : Nat} {ds : List Nat} {kd : Int32} (h : tyS q S X b outs l0 A0 G0 ds e A G) (hj : jt S A e (kls S e) (if e = b then outs else 1) = .inl kd) : jg_ty S b outs (e + 1 - l0) A0 l0 = .inl kd := by
  obtain ⟨h1, h2, -⟩ := h
  rw [show e + 1 - l0 = (e - l0) + 1 by omega, jg_ty_go h2, show l0 + (e - l0) = e by omega, jg_ty_1, hj]
theorem tyS.end {l0 e : Nat} {ds : List Nat} {t : Int32} (h : tyS q S X b outs l0 A0 G0 ds e A G) (hl0 : lw (S.2 34) e = l0) (hj : jt S A e (kls S e) (if e = b then outs else 1) = .inr t) (ht : t = 0 ∨ t = 1) : tdP q S X b outs A0 e G0 (some (vR (ty q.1.1 t))) G := by
  obtain ⟨h1, h2, h3, h4⟩ := h
  refine ⟨A, t, by rw [hl0]; exact h2, hj, ht, rfl, by rw [hl0]; exact h3⟩
/-- a Wrong is thrown at e -/
theorem tyS.thr {l0 e : Nat} {ds : List Nat} {kd : Int32} (hw : tw q lo hi S X G) (h : tyS q S X b outs l0 A0 G0 ds e A G) (hl0 : lw (S.2 34) e = l0) (hj : jt S A e (kls S e) (if e = b then outs else 1) = .inl kd) : tyX q S X b outs A0 e G0 (hp_C (hp_kd G q.1.2.2.2.1)) q.1.2.2.2.1 (hp_sI G q.1.2.2.2.1 6 kd) := by
  refine ⟨kd, by rw [hl0]; exact h.bad hj, by rw [hw.1.1.2.1.1]; rfl, rfl, G, ?_, hw.1.1.2.1.1, rfl⟩
  rw [hl0]
  exact h.2.2.1.mono (Nat.le_refl _) (by omega)
theorem ty_01 {w : WD} {G : GH} (h : kc w G) {a c : Int32} (ha : a = 0 ∨ a = 1) (hc : c = 0 ∨ c = 1) : ty w a = ty w c ↔ a = c := by
  have h9 := h.2.2.2.1
  rcases ha with rfl | rfl <;> rcases hc with rfl | rfl
  · exact ⟨fun _ => rfl, fun _ => rfl⟩
  · exact ⟨fun u => absurd u h9, fun u => absurd u (by decide)⟩
  · exact ⟨fun u => absurd u.symm h9, fun u => absurd u (by decide)⟩
  · exact ⟨fun _ => rfl, fun _ => rfl⟩
theorem ty_B {w : WD} : hp_sv w "StreamNodes$Type" "BOOL" = ty w 1 := rfl
theorem ty_I {w : WD} : hp_sv w "StreamNodes$Type" "INT" = ty w 0 := rfl
/-- what is said of the parts -/
def tyIH (q : PZ) (S : MS) (X : Nat → Nat) (lo hi b outs D : Nat) (ks : List Nat) : Prop := ∀ k ∈ ks, ∀ A G, tw q lo hi S X G → wk_C q.1.1 mX11_type D 0 [vR (some (X k))] G (tyP q S X b outs A k G) (tyX q S X b outs A k G)
theorem X18_typed_C {e d : Nat} (hw : tw q lo hi S X G) (hpw : pw S lo hi) (hh : hi ≤ 5000) (h1 : lo ≤ e) (h2 : e < hi) (hk : S.2 32 e = 0 ∨ S.2 32 e = 1) : wk_C q.1.1 mX18_typed d 0 [vR (some (X e))] G (tdP q S X b outs A e G) (tyX q S X b outs A e G) := by
  obtain ⟨x1, -, x3, -⟩ := (hw.2.1 e h1 h2).1
  obtain ⟨y1, y2, y3⟩ := (hpw e h1 h2).2.kl (by omega)
  have e0 : kls S e = [] := by
    have : (kls S e).length = 0 := by
      unfold pw_s at y3
      rcases hk with u | u <;> rw [u] at y3
      · rcases y3 with ⟨-, w⟩ | ⟨w, -⟩ | ⟨w, -⟩ | ⟨w, -⟩ | ⟨w, -⟩ | ⟨w, -⟩ | ⟨w, -⟩ | ⟨w, -⟩ <;> first | exact w | exact absurd w (by decide)
      · rcases y3 with ⟨w, -⟩ | ⟨-, w, -⟩ | ⟨w, -⟩ | ⟨w, -⟩ | ⟨w, -⟩ | ⟨w, -⟩ | ⟨w, -⟩ | ⟨w, -⟩ <;> first | exact w | exact absurd w (by decide)
    exact List.length_eq_zero_iff.1 this
  rw [e0] at y2
  have el : lw (S.2 34) e = e := y2
  have kx : hp_kd G (X e) = 13 := by rw [x1.1]; unfold xk; rw [if_pos hk]
  refine wk_C_of (by decide) rfl (Nat.le_of_ble_eq_true rfl) ?_
  refine blX18_typed_0 kx ?_
  rw [(x3.1 hk).2]
  refine (tyS.z (l0 := e)).end el ?_ hk
  unfold jt
  rcases hk with u | u
  · rw [u]; rfl
  · rw [u]; rfl
theorem X19_typed_C {e d : Nat} (hw : tw q lo hi S X G) (hpw : pw S lo hi) (hh : hi ≤ 5000) (hJ : pj_V n S) (h1 : lo ≤ e) (h2 : e < hi) (hk : S.2 32 e = 2) : wk_C q.1.1 mX19_typed d 0 [vR (some (X e))] G (tdP q S X b outs A e G) (tyX q S X b outs A e G) := by
  obtain ⟨x1, -, x3, -⟩ := (hw.2.1 e h1 h2).1
  obtain ⟨y1, y2, y3⟩ := (hpw e h1 h2).2.kl (by omega)
  have hv6 := hJ.1.N.2.2.2.1
  obtain ⟨e0, v, w1, w2⟩ : (kls S e).length = 0 ∧ ∃ v, pr_a S + v < pr_v S ∧ S.2 33 e = nI v := by
    unfold pw_s at y3
    rw [hk] at y3
    rcases y3 with ⟨w, -⟩ | ⟨w, -⟩ | ⟨-, w⟩ | ⟨w, -⟩ | ⟨w, -⟩ | ⟨w, -⟩ | ⟨w, -⟩ | ⟨w, -⟩ <;> first | exact w | exact absurd w (by decide)
  have e0 : kls S e = [] := List.length_eq_zero_iff.1 e0
  rw [e0] at y2
  have el : lw (S.2 34) e = e := y2
  have kx : hp_kd G (X e) = 14 := by rw [x1.1, hk]; rfl
  have hv2 : v < 2 ^ 31 := by omega
  obtain ⟨F, hF⟩ := hw.2.2.1 (pr_a S + v) (Nat.le_add_right _ _) w1
  refine wk_C_of (by decide) rfl (Nat.le_of_ble_eq_true rfl) ?_
  refine blX19_typed_0 kx (x3.2.1 hk) (by rw [w2, nI_clamp hv2]; exact hF.1.1) ?_
  rw [w2, nI_clamp hv2, hF.2.2.1]
  have h01 := hJ.2.1 (pr_a S + v) w1
  refine (tyS.z (l0 := e)).end el ?_ h01
  unfold jt
  rw [hk, w2, nI_clamp hv2]
  rfl
end
