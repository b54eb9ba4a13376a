/-! THE COMPONENT's finish: gather, the walk -/
set_option maxRecDepth 100000
section
variable {q : PZ} {S : MS} {X Q kq : Nat → Nat} {lo hi n t Lc Lm Lr : Nat} {G G1 G2 G' : GH}
def apot (n c : Nat) : Nat := n + n / 2 + 10 - c
theorem apot_s {n c : Nat} (h : n ≤ c) (h2 : c ≤ n + n / 2 + 10) : al_b n c + apot (n + 1) (al_c n c) ≤ apot n c + 2 ∧ al_c n c ≤ (n + 1) + (n + 1) / 2 + 10 := by
  have h3 := al_pot h
  obtain ⟨h4, h5⟩ := al_cap h h2
  unfold apot
  omega
theorem nuf_v (s : Int32) : nuf s = 8 ∨ nuf s = 6 ∨ nuf s = 5 ∨ nuf s = 99 := by
  unfold nuf
  repeat' split
  all_goals decide
/-- a list of the node -/
def gl1 (q : PZ) (G : GH) (t k L n c : Nat) (el : Nat → Option Nat) : Prop := hp_r G t k = some L ∧ ow G L t ∧ al q.1.1 G L n c el ∧ c ≤ n + n / 2 + 10
/-- how far gather has come -/
def gs (q : PZ) (S : MS) (X Q kq : Nat → Nat) (lo t Lc Lm Lr l cc cm cr : Nat) (G : GH) : Prop :=
  gl1 q G t 4 Lc (cls S lo l).length cc (fun i => some (X ((cls S lo l).getD i 0))) ∧
  gl1 q G t 5 Lm (mes S lo l).length cm (fun i => some (X ((mes S lo l).getD i 0))) ∧
  gl1 q G t 6 Lr (cls S lo l).length cr (fun i => some (Q (kq ((cls S lo l).getD i 0)))) ∧
  (∀ x, lo ≤ x → x < l → (S.2 32 x = 3 → hp_i G (X x) 8 = nI (cls S lo x).length) ∧ (isM (S.2 32 x) → hp_i G (X x) (nuf (S.2 32 x)) = nI (mes S lo x).length)) ∧
  hp_i G t 10 = nI (nx_t nx_s (S.2 32) lo (l - lo))
def gpot (S : MS) (lo l cc cm cr : Nat) : Nat := apot (cls S lo l).length cc + apot (mes S lo l).length cm + apot (cls S lo l).length cr
/-- what gather changes -/
def gtr (S : MS) (X : Nat → Nat) (lo hi t Lc Lm Lr : Nat) (G G' : GH) : Prop := cf (fun y => (∃ e, lo ≤ e ∧ e < hi ∧ y = X e) ∨ y = t ∨ al_o G Lc y ∨ al_o G Lm y ∨ al_o G Lr y) G G' ∧ (∀ e, lo ≤ e → e < hi → hp_r G' (X e) = hp_r G (X e) ∧ ∀ k, k ≠ nuf (S.2 32 e) → hp_i G' (X e) k = hp_i G (X e) k) ∧ hp_r G' t = hp_r G t ∧ ∀ k, k ≠ 10 → hp_i G' t k = hp_i G t k
theorem gtr.rf : gtr S X lo hi t Lc Lm Lr G G := ⟨cf.rf, fun _ _ _ => ⟨rfl, fun _ _ => rfl⟩, rfl, fun _ _ => rfl⟩
theorem al_o.back {own : Nat → Prop} {L y : Nat} (hf : cf own G G1) (hy : hp_kd G y ≠ 0) (h : al_o G1 L y) : al_o G L y := by
  rcases h with h | ⟨h1, h2⟩
  · exact Or.inl h
  · exact Or.inr ⟨h1.cg (hf.lg hy).symm, by rw [← hf.kd hy]; exact h2⟩
theorem gtr.tr (h : gtr S X lo hi t Lc Lm Lr G G1) (h2 : gtr S X lo hi t Lc Lm Lr G1 G2) : gtr S X lo hi t Lc Lm Lr G G2 :=
  ⟨h.1.tr2 h2.1 (fun y hy u => u.imp id (fun u => u.imp id (fun u => u.imp (al_o.back h.1 hy) (fun u => u.imp (al_o.back h.1 hy) (al_o.back h.1 hy))))), fun e a b => ⟨((h2.2.1 e a b).1).trans (h.2.1 e a b).1, fun k hk => ((h2.2.1 e a b).2 k hk).trans ((h.2.1 e a b).2 k hk)⟩, h2.2.2.1.trans h.2.2.1, fun k hk => (h2.2.2.2 k hk).trans (h.2.2.2 k hk)⟩
/-- what gather needs -/
def gtw (q : PZ) (S : MS) (X Q kq : Nat → Nat) (lo hi t : Nat) (G : GH) : Prop := (hp_kd G q.1.2.1 = 12 ∧ hp_r G q.1.2.1 10 = some t ∧ hp_kd G t = 8 ∧ hp_A q.1.1 t) ∧ kE q.1.1 G ∧ (∀ e, lo ≤ e → e < hi → xe q S G X e ∧ (∀ j, lo ≤ j → j < e → X j ≠ X e) ∧ xht S e) ∧ ∀ e, lo ≤ e → e < hi → hp_kd G (Q (kq e)) = 7
theorem gtw.k (h : gtw q S X Q kq lo hi t G) {e : Nat} (h1 : lo ≤ e) (h2 : e < hi) : 13 ≤ hp_kd G (X e) ∧ hp_kd G (X e) ≤ 21 := by
  rw [(h.2.2.1 e h1 h2).1.1.1]
  exact xk_r _
theorem gtw.inj (h : gtw q S X Q kq lo hi t G) {e j : Nat} (h1 : lo ≤ e) (h2 : e < hi) (h3 : lo ≤ j) (h4 : j < hi) (hne : e ≠ j) : X e ≠ X j := by
  rcases Nat.lt_or_ge e j with u | u
  · exact (h.2.2.1 j h3 h4).2.1 e h1 u
  · exact fun w => (h.2.2.1 e h1 h2).2.1 j h3 (by omega) w.symm
theorem xe.gr0 {e : Nat} {own : Nat → Prop} (h : xe q S G X e) (hf : cf own G G') (hr : hp_r G' (X e) = hp_r G (X e)) (hi : ∀ k, k ≠ nuf (S.2 32 e) → hp_i G' (X e) k = hp_i G (X e) k) (ho : ∀ L, ow G L (X e) → hp_kd G L = 22 → ∀ y, al_o G L y → ¬ own y) : xe q S G' X e := by
  obtain ⟨⟨h1, h2⟩, h3, h4, ks, h5, h6, h7⟩ := h
  have hrr := xk_r (S.2 32 e)
  have n2 : nuf (S.2 32 e) ≠ 2 := by have := nuf_v (S.2 32 e); omega
  refine ⟨⟨hf.k h1 (by omega), h2⟩, by rw [hi 2 n2.symm]; exact h3, ?_, ks, h5, h6, fun u => ?_⟩
  · obtain ⟨x1, x2, x3, x4, x5, x6, x7⟩ := h4
    unfold xw
    rw [hr]
    refine ⟨fun u => ?_, x2, fun u => ?_, fun u => ?_, fun u => ?_, fun u => ?_, fun u => ?_⟩
    · rw [hi 3 (by have := nuf_v (S.2 32 e); omega)]; exact x1 u
    · have e6 : hp_i G' (X e) 6 = hp_i G (X e) 6 := hi 6 (by rw [u]; decide)
      rw [e6]; exact x3 u
    · rw [hi 5 (by rw [u]; decide)]; exact x4 u
    · rw [hi 5 (by rw [u]; decide)]; exact x5 u
    · rw [hi 5 (by
        unfold nuf
        split
        · decide
        split
        · decide
        split
        · rename_i v
          exact absurd u.2 (by rcases v with v | v <;> rw [v] <;> decide)
        · decide)]
      exact x6 u
    · have e6 : hp_i G' (X e) 6 = hp_i G (X e) 6 := hi 6 (by rw [u]; decide)
      rw [e6]; exact x7 u
  · obtain ⟨a1, L, c, a2, a3, a4⟩ := h7 u
    have kL := a4.1.1
    exact ⟨by rw [hr]; exact a1, L, c, by rw [hr]; exact a2, a3.cg (hf.lg (by rw [kL]; decide)), a4.fr hf (ho L a3 kL L (Or.inl rfl)) (fun y hy hk => ho L a3 kL y (Or.inr ⟨hy, hk⟩))⟩
theorem al_dis2 {L L' y : Nat} (hne : L ≠ L') (kL : hp_kd G L = 22) (kL' : hp_kd G L' = 22) (h : al_o G L y) : ¬ al_o G L' y := by
  rcases h with u | ⟨u1, u2⟩
  · rintro (v | ⟨-, v2⟩)
    · exact hne (u.symm.trans v)
    · rw [u, kL] at v2; cases v2
  · rintro (v | ⟨v1, -⟩)
    · rw [v, kL'] at u2; cases u2
    · exact hne (u1.uq v1)
theorem al_wo {L m c y : Nat} (h : al_w G L m c y) : al_o G L y := h.imp id (fun u => ⟨u.2.2.1, u.2.2.2⟩)
theorem al_ok {L y : Nat} (h : al_o G L y) (kL : hp_kd G L = 22) : hp_kd G y = 22 ∨ hp_kd G y = 32 := h.elim (fun u => Or.inl (by rw [u]; exact kL)) (fun u => Or.inr u.2)
theorem gl1.fr {own : Nat → Prop} {k L m c : Nat} {el : Nat → Option Nat} (h : gl1 q G t k L m c el) (hf : cf own G G') (ht : hp_r G' t = hp_r G t) (hL : ∀ y, al_o G L y → ¬ own y) : gl1 q G' t k L m c el := by
  obtain ⟨h1, h2, h3, h4⟩ := h
  have kL := h3.1.1
  exact ⟨by rw [ht]; exact h1, h2.cg (hf.lg (by rw [kL]; decide)), h3.fr hf (hL L (Or.inl rfl)) (fun y hy hk => hL y (Or.inr ⟨hy, hk⟩)), h4⟩
theorem gl1.push {k L m c : Nat} {el : Nat → Option Nat} {x : Option Nat} (h : gl1 q G t k L m c el) (kt : hp_kd G t = 8) (hp : al_p q.1.1 G L m c el x G') : gl1 q G' t k L (m + 1) (al_c m c) (fun i => if i = m then x else el i) := by
  obtain ⟨h1, h2, h3, h4⟩ := h
  obtain ⟨p1, p2, -⟩ := hp
  have kL := h3.1.1
  have nt : ¬ al_w G L m c t := fun u => by have := al_ok (al_wo u) kL; omega
  exact ⟨by rw [p2.r (by rw [kt]; decide) nt]; exact h1, h2.cg (p2.lg (by rw [kL]; decide)), p1, (apot_s h3.2.1.1 h4).2⟩
theorem gl1.cg {k L m c : Nat} {el el' : Nat → Option Nat} (h : gl1 q G t k L m c el) (he : ∀ i, i < m → el' i = el i) : gl1 q G t k L m c el' := ⟨h.1, h.2.1, h.2.2.1.cg he, h.2.2.2⟩
theorem gtw.gr0 (h : gtw q S X Q kq lo hi t G) (hr : gtr S X lo hi t Lc Lm Lr G G') (hc : ow G Lc t ∧ hp_kd G Lc = 22) (hm : ow G Lm t ∧ hp_kd G Lm = 22) (hl : ow G Lr t ∧ hp_kd G Lr = 22) : gtw q S X Q kq lo hi t G' := by
  obtain ⟨⟨a1, a2, a3, a4⟩, b, c, d⟩ := id h
  have hko : ∀ y, ((∃ e, lo ≤ e ∧ e < hi ∧ y = X e) ∨ y = t ∨ al_o G Lc y ∨ al_o G Lm y ∨ al_o G Lr y) → (13 ≤ hp_kd G y ∧ hp_kd G y ≤ 21) ∨ hp_kd G y = 8 ∨ hp_kd G y = 22 ∨ hp_kd G y = 32 := by
    rintro y (⟨e, u1, u2, rfl⟩ | rfl | u | u | u)
    · exact Or.inl (h.k u1 u2)
    · exact Or.inr (Or.inl a3)
    · have := al_ok u hc.2; omega
    · have := al_ok u hm.2; omega
    · have := al_ok u hl.2; omega
  have nR : ¬ ((∃ e, lo ≤ e ∧ e < hi ∧ q.1.2.1 = X e) ∨ q.1.2.1 = t ∨ al_o G Lc q.1.2.1 ∨ al_o G Lm q.1.2.1 ∨ al_o G Lr q.1.2.1) := fun u => by have := hko _ u; omega
  refine ⟨⟨hr.1.k a1 (by decide), by rw [hr.1.r (by rw [a1]; decide) nR]; exact a2, hr.1.k a3 (by decide), a4⟩, b.fr hr.1, fun e u1 u2 => ⟨(c e u1 u2).1.gr0 hr.1 (hr.2.1 e u1 u2).1 (hr.2.1 e u1 u2).2 (fun L w1 w2 y w3 w4 => ?_), (c e u1 u2).2⟩, fun e u1 u2 => hr.1.k (d e u1 u2) (by decide)⟩
  have kX := h.k u1 u2
  have ky := al_ok w3 w2
  have ne : X e ≠ t := fun w => by rw [w, a3] at kX; omega
  rcases w4 with ⟨e', v1, v2, v3⟩ | v | v | v | v
  · have := h.k v1 v2; rw [← v3] at this; omega
  · rw [v, a3] at ky; omega
  · exact al_dis w1 hc.1 ne w2 hc.2 y w3 v
  · exact al_dis w1 hm.1 ne w2 hm.2 y w3 v
  · exact al_dis w1 hl.1 ne w2 hl.2 y w3 v
/-- the number of an expression is written -/
theorem gtr.num {e : Nat} {v : Int32} (h1 : lo ≤ e) (h2 : e < hi) (hw : gtw q S X Q kq lo hi t G) : gtr S X lo hi t Lc Lm Lr G (hp_sI G (X e) (nuf (S.2 32 e)) v) := by
  have kX := hw.k h1 h2
  have ne : ¬ t = X e := fun w => by have := hw.1.2.2.1; rw [w] at this; omega
  refine ⟨cf.rf.sI (Or.inl (Or.inl ⟨e, h1, h2, rfl⟩)), fun e' u1 u2 => ⟨rfl, fun k hk => ?_⟩, rfl, fun k _ => by rw [hp_i_sI, if_neg ne]⟩
  rw [hp_i_sI]
  by_cases w : X e' = X e
  · have ee : e' = e := Decidable.byContradiction fun u => hw.inj u1 u2 h1 h2 u w
    rw [if_pos w, if_neg (by rw [← ee]; exact hk), w]
  · rw [if_neg w]
/-- a list grows -/
theorem gtr.add {L m c : Nat} (hw : gtw q S X Q kq lo hi t G) (hL : L = Lc ∨ L = Lm ∨ L = Lr) (kL : hp_kd G L = 22) (hf : cf (al_w G L m c) G G') : gtr S X lo hi t Lc Lm Lr G G' := by
  have hk : ∀ y, al_w G L m c y → hp_kd G y = 22 ∨ hp_kd G y = 32 := fun y u => al_ok (al_wo u) kL
  refine ⟨hf.mono (fun y _ u => ?_), fun e u1 u2 => ?_, ?_, fun k _ => ?_⟩
  · have := al_wo u
    rcases hL with w | w | w <;> rw [w] at this
    · exact Or.inr (Or.inr (Or.inl this))
    · exact Or.inr (Or.inr (Or.inr (Or.inl this)))
    · exact Or.inr (Or.inr (Or.inr (Or.inr this)))
  · have kX := hw.k u1 u2
    have nX : ¬ al_w G L m c (X e) := fun u => by have := hk _ u; omega
    exact ⟨hf.r (by omega) nX, fun k _ => by rw [hf.i (by omega) nX]⟩
  · exact hf.r (by rw [hw.1.2.2.1]; decide) (fun u => by have := hk _ u; rw [hw.1.2.2.1] at this; omega)
  · rw [hf.i (by rw [hw.1.2.2.1]; decide) (fun u => by have := hk _ u; rw [hw.1.2.2.1] at this; omega)]
theorem gtr.cnt {v : Int32} (hw : gtw q S X Q kq lo hi t G) : gtr S X lo hi t Lc Lm Lr G (hp_sI G t 10 v) := by
  refine ⟨cf.rf.sI (Or.inl (Or.inr (Or.inl rfl))), fun e u1 u2 => ⟨rfl, fun k _ => ?_⟩, rfl, fun k hk => ?_⟩
  · have kX := hw.k u1 u2
    rw [hp_i_sI, if_neg (fun w => by have := hw.1.2.2.1; rw [← w] at this; omega)]
  · rw [hp_i_sI, if_pos rfl, if_neg hk]
theorem getD_app {l : List Nat} {x e i : Nat} (h : i < l.length + 1) : (if i = l.length then some x else (some (l.getD i 0))) = some ((l ++ [x]).getD i 0) := by
  rw [ls_getD_app]
  split <;> rfl
end
