/-! THE COMPONENT's finish: what types, clocks look at; what they change -/
set_option maxRecDepth 100000
/-- only types and clocks of the expressions lo .. hi - 1 change -/
def tf (X : Nat → Nat) (lo hi : Nat) (G G' : GH) : Prop := cf (fun y => ∃ e, lo ≤ e ∧ e < hi ∧ y = X e) G G' ∧ ∀ y, hp_kd G y ≠ 0 → hp_i G' y = hp_i G y ∧ ∀ k, 2 ≤ k → hp_r G' y k = hp_r G y k
section
variable {X : Nat → Nat} {lo hi lo2 hi2 : Nat} {G G1 G2 : GH}
theorem tf.rf : tf X lo hi G G := ⟨cf.rf, fun _ _ => ⟨rfl, fun _ _ => rfl⟩⟩
theorem tf.tr (h : tf X lo hi G G1) (h2 : tf X lo2 hi2 G1 G2) (a : lo ≤ lo2) (b : hi2 ≤ hi) : tf X lo hi G G2 :=
  ⟨h.1.tr2 h2.1 (fun y _ ⟨e, u1, u2, u3⟩ => ⟨e, by omega, by omega, u3⟩), fun y hy => ⟨((h2.2 y (h.1.ne hy)).1).trans (h.2 y hy).1, fun k hk => ((h2.2 y (h.1.ne hy)).2 k hk).trans ((h.2 y hy).2 k hk)⟩⟩
theorem tf.mono (h : tf X lo2 hi2 G G1) (a : lo ≤ lo2) (b : hi2 ≤ hi) : tf X lo hi G G1 := (tf.rf (lo := lo) (hi := hi)).tr h a b
theorem tf.wr {e k : Nat} {v : Option Nat} (h : tf X lo hi G G1) (h1 : lo ≤ e) (h2 : e < hi) (hk : k < 2) : tf X lo hi G (hp_sR G1 (X e) k v) :=
  ⟨h.1.sR (Or.inl ⟨e, h1, h2, rfl⟩), fun y hy => ⟨(h.2 y hy).1, fun j hj => by
    rw [hp_r_sR]
    by_cases u : y = X e
    · rw [if_pos u, if_neg (by omega)]; exact (h.2 y hy).2 j hj
    · rw [if_neg u]; exact (h.2 y hy).2 j hj⟩⟩
/-- new cells and writes there -/
theorem tf.new {x : Nat} (h : tf X lo hi G G1) (hx : hp_kd G x = 0) (hf : cf (fun y => y = x) G1 G2) : tf X lo hi G G2 :=
  ⟨h.1.tr2 (hf.mono (own2 := fun y => y = x) (fun _ _ u => u)) (fun y hy u => absurd hx (by rw [← u]; exact hy)), fun y hy => by
    have hne : ¬ y = x := fun u => hy (by rw [u]; exact hx)
    have hy1 := h.1.ne hy
    rw [hf.i hy1 hne, hf.r hy1 hne]
    exact h.2 y hy⟩
theorem tf.r {y k : Nat} (h : tf X lo hi G G1) (hy : hp_kd G y ≠ 0) (hn : ∀ e, lo ≤ e → e < hi → y ≠ X e) : hp_r G1 y k = hp_r G y k := by
  rw [h.1.r hy (fun ⟨e, a, b, c⟩ => hn e a b c)]
end
section
variable {q : PZ} {S : MS} {X : Nat → Nat} {lo hi : Nat} {G G' G1 : GH} {own : Nat → Prop}
/-- a called node -/
def nh (q : PZ) (S : MS) (G : GH) (f : Nat) : Prop := (hp_kd G (qN q f) = 8 ∧ hp_i G (qN q f) 7 = S.2 13 f ∧ hp_i G (qN q f) 8 = S.2 14 f) ∧ ∃ (L c n : Nat) (VV : Nat → Nat), hp_r G (qN q f) 1 = some L ∧ al q.1.1 G L n c (fun i => some (VV i)) ∧ jg_n (S.2 13 f) + jg_n (S.2 14 f) ≤ n ∧ ∀ i, i < n → hp_kd G (VV i) = 6 ∧ hp_r G (VV i) 1 = ty q.1.1 (S.2 24 (jg_n (S.2 12 f) + i))
theorem nh.fr {f : Nat} (h : nh q S G f) (hf : cf own G G') (ho : ∀ y, own y → hp_kd G y ≠ 6 ∧ hp_kd G y ≠ 8 ∧ hp_kd G y ≠ 22 ∧ hp_kd G y ≠ 32) : nh q S G' f := by
  obtain ⟨⟨h1, h2, h3⟩, L, c, n, VV, h4, h5, h6, h7⟩ := h
  have nN : ¬ own (qN q f) := fun u => (ho _ u).2.1 h1
  have k0 : hp_kd G (qN q f) ≠ 0 := by rw [h1]; decide
  have kL := h5.1.1
  refine ⟨⟨hf.k h1 (by decide), by rw [hf.i k0 nN]; exact h2, by rw [hf.i k0 nN]; exact h3⟩, L, c, n, VV, by rw [hf.r k0 nN]; exact h4, h5.fr hf (fun u => (ho _ u).2.2.1 kL) (fun y _ hy u => (ho _ u).2.2.2 hy), h6, fun i hi => ?_⟩
  obtain ⟨a, b⟩ := h7 i hi
  exact ⟨hf.k a (by decide), by rw [hf.r (by rw [a]; decide) (fun u => (ho _ u).1 a)]; exact b⟩
theorem vxb.fr2 {v : Nat} {F : Option Nat} (h : vxb q S G v F) (hf : cf own G G') (hst : ∀ a l, st q.1.1 G a l → st q.1.1 G' a l) (ho : ∀ y, own y → hp_kd G y ≠ 5 ∧ hp_kd G y ≠ 6) : vxb q S G' v F := by
  obtain ⟨⟨h1, h2⟩, ⟨nm, h3, h4⟩, h5, h6, h7, b, h8, h9⟩ := h
  have kv : hp_kd G (qV q v) ≠ 0 := by rw [h1]; decide
  have nv : ¬ own (qV q v) := fun u => (ho _ u).2 h1
  refine ⟨⟨hf.k h1 (by decide), h2⟩, ⟨nm, by rw [hf.r kv nv]; exact h3, hst _ _ h4⟩, by rw [hf.r kv nv]; exact h5, by rw [hf.i kv nv]; exact h6, ⟨by rw [hf.i kv nv]; exact h7.1, by rw [hf.r kv nv]; exact h7.2⟩, b, by rw [hf.r kv nv]; exact h8, ?_⟩
  rcases h9 with h9 | ⟨k, s, k1, k2, k3, k4, k5, k6, k7⟩
  · exact Or.inl h9
  · have kb : hp_kd G b ≠ 0 := by rw [k4]; decide
    have nb : ¬ own b := fun u => (ho _ u).1 k4
    exact Or.inr ⟨k, s, k1, k2, k3, hf.k k4 (by decide), by rw [hf.r kb nb]; exact k5, by rw [hf.i kb nb]; exact k6, by rw [hf.i kb nb]; exact k7⟩
/-- what types and clocks look at -/
def tw (q : PZ) (lo hi : Nat) (S : MS) (X : Nat → Nat) (G : GH) : Prop := (rb q.1 G ∧ kc q.1.1 G) ∧ (∀ e, lo ≤ e → e < hi → xe q S G X e ∧ (∀ j, lo ≤ j → j < e → X j ≠ X e) ∧ xht S e) ∧ (∀ v, pr_a S ≤ v → v < pr_v S → ∃ F, vxb q S G v F) ∧ ∀ f, f < pr_N S → nh q S G f
theorem tw.k (h : tw q lo hi S X G) {e : Nat} (h1 : lo ≤ e) (h2 : e < hi) : 13 ≤ hp_kd G (X e) ∧ hp_kd G (X e) ≤ 21 := by
  rw [(h.2.1 e h1 h2).1.1.1]
  exact xk_r _
theorem tw.inj (h : tw q lo hi S X G) {e j : Nat} (h1 : lo ≤ e) (h2 : e < hi) (h3 : lo ≤ j) (h4 : j < hi) (hne : e ≠ j) : X e ≠ X j := by
  rcases Nat.lt_or_ge e j with u | u
  · exact (h.2.1 j h3 h4).2.1 e h1 u
  · exact fun w => (h.2.1 e h1 h2).2.1 j h3 (by omega) w.symm
theorem xe.wt {lo2 hi2 e : Nat} (h : xe q S G X e) (hf : tf X lo2 hi2 G G') (hk : ∀ e, lo2 ≤ e → e < hi2 → 13 ≤ hp_kd G (X e) ∧ hp_kd G (X e) ≤ 21) : xe q S G' X e := by
  obtain ⟨⟨h1, h2⟩, h3, h4, ks, h5, h6, h7⟩ := h
  have hr := xk_r (S.2 32 e)
  have kx : hp_kd G (X e) ≠ 0 := by omega
  obtain ⟨ei, er⟩ := hf.2 _ kx
  refine ⟨⟨hf.1.k h1 (by omega), h2⟩, by rw [ei]; exact h3, ?_, ks, h5, h6, fun u => ?_⟩
  · unfold xw
    rw [ei, er 4 (by decide), er 3 (by decide), er 5 (by decide), er 7 (by decide)]
    exact h4
  · obtain ⟨a1, L, c, a2, a3, a4⟩ := h7 u
    have kL := a4.1.1
    refine ⟨by rw [er 4 (by decide)]; exact a1, L, c, by rw [er 3 (by decide)]; exact a2, a3.cg (hf.1.lg (by rw [kL]; decide)), a4.fr hf.1 ?_ (fun y _ hy => ?_)⟩
    · rintro ⟨e', u1, u2, u3⟩
      have := hk e' u1 u2
      rw [← u3, kL] at this
      omega
    · rintro ⟨e', u1, u2, u3⟩
      have := hk e' u1 u2
      rw [← u3, hy] at this
      omega
theorem tw.wt {lo2 hi2 : Nat} (h : tw q lo hi S X G) (hf : tf X lo2 hi2 G G') (a : lo ≤ lo2) (b : hi2 ≤ hi) : tw q lo hi S X G' := by
  have hk : ∀ e, lo2 ≤ e → e < hi2 → 13 ≤ hp_kd G (X e) ∧ hp_kd G (X e) ≤ 21 := fun e u1 u2 => h.k (by omega) (by omega)
  have ho : ∀ y, (∃ e, lo2 ≤ e ∧ e < hi2 ∧ y = X e) → 13 ≤ hp_kd G y ∧ hp_kd G y ≤ 21 := fun y ⟨e, u1, u2, u3⟩ => by rw [u3]; exact hk e u1 u2
  have hx := rx_of (z := q.1) hf.1 (fun y u => by have := ho y u; constructor <;> omega)
  obtain ⟨⟨h1, h2⟩, h3, h4, h5⟩ := h
  refine ⟨⟨h1.fr hf.1 (fun u => ?_) (fun u => ?_), h2.fr2 hf.1 hx.2.1 (fun y u => by have := ho y u; omega)⟩, fun e u1 u2 => ⟨(h3 e u1 u2).1.wt hf hk, (h3 e u1 u2).2⟩, fun v u1 u2 => ?_, fun f hfN => (h5 f hfN).fr hf.1 (fun y u => by have := ho y u; omega)⟩
  · have := ho _ u; rw [h1.1.1] at this; omega
  · have := ho _ u; rw [h1.2.2.1.1] at this; omega
  · obtain ⟨F, hF⟩ := h4 v u1 u2
    exact ⟨F, hF.fr2 hf.1 hx.2.2 (fun y u => by have := ho y u; omega)⟩
/-- a Wrong of the kind kd is thrown -/
def wx (q : PZ) (X : Nat → Nat) (lo hi : Nat) (G : GH) (kd : Int32) (E : String) (a : Nat) (G' : GH) : Prop := E = "StreamNodes$Wrong" ∧ a = q.1.2.2.2.1 ∧ ∃ G1, tf X lo hi G G1 ∧ hp_kd G1 a = 3 ∧ G' = hp_sI G1 a 6 kd
theorem wx.up {lo2 hi2 a : Nat} {kd : Int32} {E : String} (h : wx q X lo2 hi2 G1 kd E a G') (hf : tf X lo hi G G1) (u : lo ≤ lo2) (v : hi2 ≤ hi) : wx q X lo hi G kd E a G' := by
  obtain ⟨h1, h2, G2, h3, h4, h5⟩ := h
  exact ⟨h1, h2, G2, hf.tr h3 u v, h4, h5⟩
theorem X1_wrong_C {w : WD} {d b : Nat} {k : Int32} (hk : hp_kd G b = 3) (hA : hp_A w b) : wk_C w mX1_wrong d 0 [vR (some b), vI k] G (fun v G' => v = some (vR (some b)) ∧ G' = hp_sI G b 6 k) (fun _ _ _ => False) := by
  refine wk_C_of (by decide) rfl (Nat.le_of_ble_eq_true rfl) ?_
  exact blX1_wrong_0 rfl hk hA ⟨rfl, rfl⟩
/-- the parts of an expression with parts -/
theorem tw.kids (h : tw q lo hi S X G) (hpw : pw S lo hi) (hh : hi ≤ 5000) {e : Nat} (h1 : lo ≤ e) (h2 : e < hi) (h3 : 3 ≤ S.2 32 e) : ∃ L c, hp_r G (X e) 3 = some L ∧ hp_r G (X e) 4 = some q.1.2.2.2.1 ∧ al q.1.1 G L (kls S e).length c (fun i => some (X ((kls S e).getD i 0))) := by
  obtain ⟨⟨-, -, -, ks, g1, g2, g3⟩, -⟩ := h.2.1 e h1 h2
  obtain ⟨a1, L, c, a2, a3, a4⟩ := g3 h3
  obtain ⟨b1, b2, -⟩ := (hpw e h1 h2).2.kl (by omega)
  have e1 : ks = kls S e := md_ch_uq ks _ _ (fun k hk => by have := g2 k hk; omega) (fun k hk => by have := ((pw_k_mem _ _ b2).2 k hk).2; omega) g1 b1
  rw [← e1]
  exact ⟨L, c, a2, a1, a4⟩
theorem tw.hts (h : tw q lo hi S X G) (hpw : pw S lo hi) (hh : hi ≤ 5000) {e : Nat} (h1 : lo ≤ e) (h2 : e < hi) : (1 ≤ xh S e ∧ xh S e ≤ 200) ∧ ∀ k ∈ kls S e, lo ≤ k ∧ k < e ∧ xh S k < xh S e := by
  obtain ⟨-, -, ⟨w1, w2, w3⟩, ks, g1, g2⟩ := h.2.1 e h1 h2
  obtain ⟨b0, b⟩ := hpw e h1 h2
  obtain ⟨b1, b2, -⟩ := b.kl (by omega)
  have e1 : ks = kls S e := md_ch_uq ks _ _ (fun k hk => by have := (g2 k hk).1; omega) (fun k hk => by have := ((pw_k_mem _ _ b2).2 k hk).2; omega) g1 b1
  refine ⟨⟨w1, w2⟩, fun k hk => ?_⟩
  have := (pw_k_mem _ _ b2).2 k hk
  rw [← e1] at hk
  exact ⟨by omega, g2 k hk⟩
theorem hcE {x : Nat} (hk : 13 ≤ hp_kd G x ∧ hp_kd G x ≤ 21) : ∀ a, some x = some a → hp_kd G a ≠ 0 ∧ hp_kd G a < 28 ∧ hp_sub (hp_kd G a) "StreamNodes$Expression" := fun a ha => by
  rw [← Option.some.inj ha]
  exact ⟨by omega, by omega, hp_subE _ hk.1 hk.2⟩
end
