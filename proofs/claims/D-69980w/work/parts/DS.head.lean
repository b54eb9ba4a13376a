/-! THE COMPONENT's PARSER: a node's head; what is known there -/
set_option maxRecDepth 100000
/-- other variables -/
abbrev qVK (q : PZ) (vk : (Nat → Nat) × (Nat → Int32)) : PZ := (q.1, vk, q.2.2)
theorem qx.vk {q q' : PZ} {b : Nat} (h : qx b q q') : q' = qVK q q'.2.1 := Prod.ext h.1 (Prod.ext rfl h.2.2)
section
variable {q : PZ} {S S' : MS} {X : Nat → Nat} {G G' G00 : GH} {c c' t L Lv hv cv Le Lc Lm Lr : Nat} {vk : (Nat → Nat) × (Nat → Int32)} {nml : List Nat}
theorem env.nI {b k : Nat} {v : Int32} (h : env q S b G) : env q S b (hp_sI G (qn q) k v) := by
  obtain ⟨h1, ⟨h2, h3, h4⟩, ⟨hN, h5, h6⟩, ⟨hv, h7, h8⟩, h9, h10⟩ := h
  have f : cf (fun y => y = qn q) G (hp_sI G (qn q) k v) := cf.rf.sI (Or.inl rfl)
  have x := rx_of (z := q.1) f (fun a u => by rw [u, h2]; exact ⟨by decide, by decide⟩)
  exact ⟨h1.fr2 f x.2.1 (fun y u => by rw [u, h2]; decide), ⟨h2, h3, h4⟩, ⟨hN, h5, h6.fr f x.2.2 (fun u => by have := h6.1.1; rw [u, h2] at this; cases this) (fun y _ hy u => by rw [u, h2] at hy; omega)⟩, ⟨hv, h7, h8.fr f x.2.2 (fun u => by have := h8.1.1; rw [u, h2] at this; cases this) (fun y _ hy u => by rw [u, h2] at hy; omega)⟩, h9, fun v a b => (h10 v a b).fr2 f x.2.2 (fun y u => by rw [u, h2]; exact ⟨by decide, by decide⟩)⟩
theorem al.nI {w : WD} {a n e k x : Nat} {v : Int32} {el : Nat → Option Nat} (h : al w G a n e el) (hx : hp_kd G x = 8) : al w (hp_sI G x k v) a n e el := by
  have kL := h.1.1
  exact h.fr (cf.rf.sI (own := fun y => y = x) (Or.inl rfl)) (fun u => by rw [u, hx] at kL; cases kL) (fun y _ hy u => by rw [u, hx] at hy; cases hy)
theorem ndl.gow {k : Nat} (h : ndl q G00 G t k L) (hne : L ≠ Lv) (hf : cf (fun a => gow G Lv hv a ∨ a = q.1.2.1 ∨ a = q.1.2.2.2.1 ∨ hp_kd G a = 26) G G') (hR : hp_kd G q.1.2.1 = 12) (hB : hp_kd G q.1.2.2.2.1 = 3) (kLv : hp_kd G Lv = 22) (khv : hp_kd G hv = 23) (ht : hp_r G' t = hp_r G t) : ndl q G00 G' t k L := by
  obtain ⟨a1, a2, a3, a4⟩ := h
  have kL := a4.1.1
  refine ⟨by rw [ht]; exact a1, a2, a3.cg (hf.lg (by rw [kL]; decide)), a4.fr hf ?_ (fun y hy0 hy => ?_)⟩
  · rintro ((((u | ⟨-, u⟩) | (u | ⟨-, u⟩))) | u | u | u)
    · exact hne u
    · rw [kL] at u; cases u
    · rw [u, khv] at kL; cases kL
    · omega
    · rw [u, hR] at kL; cases kL
    · rw [u, hB] at kL; cases kL
    · rw [u] at kL; cases kL
  · rintro ((((u | ⟨u, -⟩) | (u | ⟨-, u⟩))) | u | u | u)
    · rw [u, kLv] at hy; cases hy
    · exact hne (hy0.uq u)
    · rw [u, khv] at hy; cases hy
    · omega
    · rw [u, hR] at hy; cases hy
    · rw [u, hB] at hy; cases hy
    · rw [u] at hy; cases hy
/-- among a node's groups -/
def hdI (q : PZ) (vk : (Nat → Nat) × (Nat → Int32)) (c : Nat) (S : MS) (G00 G : GH) (Lv hv cv Le Lc Lm Lr : Nat) (nml : List Nat) : Prop :=
  rat q.1 c G ∧ env (qVK q vk) S (pr_v S) G ∧ nvs (qVK q vk) S (pr_v S) G00 G Lv hv cv ∧ (pg_I (rz_n q.1) c S ∧ gx S ∧ S.2 0 = rz_T q.1) ∧ (rx q.1 no9 G00 G ∧ rkk q.1 G00 G) ∧ (ndl q G00 G (qn q) 3 Le ∧ ndl q G00 G (qn q) 4 Lc ∧ ndl q G00 G (qn q) 5 Lm ∧ ndl q G00 G (qn q) 6 Lr ∧ [Lv, Le, Lc, Lm, Lr].Nodup) ∧ ∃ nm, hp_r G (qn q) 0 = some nm ∧ st q.1.1 G nm nml
theorem hdI.pst (h : hdI q vk c S G00 G Lv hv cv Le Lc Lm Lr nml) : pst (qVK q vk) (pr_p S) c S X G ∧ pin (qVK q vk) S X G00 S X G :=
  ⟨⟨h.1, h.2.1, fun e a b => by omega, h.2.2.2.1.2.2⟩, pin.of h.2.2.2.2.1.1 h.2.2.2.2.1.2⟩
theorem hdI.gO {kd : Int32} {cv' : Nat} {q' : PZ} (h : hdI q vk c S G00 G Lv hv cv Le Lc Lm Lr nml) (hO : gO (qVK q vk) c S kd G00 G Lv hv c' S' q' cv' G') (hI : pg_I (rz_n q.1) c' S') (hg : gx S') (hT : S'.2 0 = rz_T q.1) : ∃ vk', q' = qVK q vk' ∧ hdI q vk' c' S' G00 G' Lv hv cv' Le Lc Lm Lr nml ∧ (∀ j, pr_v S ≤ j → j < pr_v S' → vk'.2 j = kd) ∧ (∀ j, j < pr_v S → vk'.2 j = vk.2 j ∧ vk'.1 j = vk.1 j) ∧ hp_i G' (qn q) = hp_i G (qn q) ∧ cb (20 * (c' - c) + (wvn (pr_v S' - pr_a S') - wvn (pr_v S - pr_a S))) G G' := by
  obtain ⟨vk', rfl⟩ : ∃ vk', q' = qVK q vk' := ⟨_, hO.1.vk⟩
  obtain ⟨b1, b2, b3, b4, b5, b6, ⟨b7, b8, b9⟩, b10⟩ := hO
  obtain ⟨a1, a2, a3, a4, a5, ⟨l1, l2, l3, l4, l5⟩, nm, n1, n2⟩ := h
  have hR := a1.1.1.1
  have hB := a1.1.2.1.1
  have kLv := a3.2.2.2.2.1.1
  have khv : hp_kd G hv = 23 := by
    obtain ⟨hv', y1, y2⟩ := a2.2.2.2.1
    have e := a3.2.1
    rw [y1] at e
    rw [← Option.some.inj e]
    exact y2.1.1
  have b8' : hp_r G' (qn q) = hp_r G (qn q) := b8
  simp only [List.nodup_cons, List.mem_cons, List.not_mem_nil, or_false, not_or, not_false_eq_true, List.nodup_nil, and_true] at l5
  refine ⟨vk', rfl, ⟨b3, b4, b5, ⟨hI, hg, hT⟩, b6, ⟨l1.gow (Ne.symm l5.1.1) b7.1 hR hB kLv khv b8', l2.gow (Ne.symm l5.1.2.1) b7.1 hR hB kLv khv b8', l3.gow (Ne.symm l5.1.2.2.1) b7.1 hR hB kLv khv b8', l4.gow (Ne.symm l5.1.2.2.2) b7.1 hR hB kLv khv b8', ?_⟩, nm, by rw [b8']; exact n1, b7.2.2 _ _ n2⟩, b2, fun j hj => ⟨(b1.2.1 j hj).2, (b1.2.1 j hj).1⟩, b9, b10⟩
  simp only [List.nodup_cons, List.mem_cons, List.not_mem_nil, or_false, not_or, not_false_eq_true, List.nodup_nil, and_true]
  exact l5
theorem ndl.nI {k k' : Nat} {v : Int32} (h : ndl q G00 G t k L) (ht : hp_kd G t = 8) : ndl q G00 (hp_sI G t k' v) t k L := ⟨h.1, h.2.1, h.2.2.1, h.2.2.2.nI ht⟩
theorem hdI.nI {k : Nat} {v : Int32} (h : hdI q vk c S G00 G Lv hv cv Le Lc Lm Lr nml) : hdI q vk c S G00 (hp_sI G (qn q) k v) Lv hv cv Le Lc Lm Lr nml := by
  obtain ⟨a1, a2, ⟨v1, v2, v3, v4, v5⟩, a4, ⟨a5, a6⟩, ⟨l1, l2, l3, l4, l5⟩, nm, n1, n2⟩ := h
  have kn : hp_kd G (qn q) = 8 := a2.2.1.1
  have kR := a1.1.1.1
  have f : cf (fun y => y = qn q) G (hp_sI G (qn q) k v) := cf.rf.sI (Or.inl rfl)
  have x := rx_of (z := q.1) f (fun a u => by rw [u, kn]; exact ⟨by decide, by decide⟩)
  have nR : ¬ q.1.2.1 = qn q := fun u => by rw [← u, kR] at kn; cases kn
  have nT : ¬ q.1.2.2.1 = qn q := fun u => by have := a1.1.2.2.1.1; rw [u, kn] at this; cases this
  exact ⟨a1.fr f x.2.2 nR nT, a2.nI (q := qVK q vk), ⟨v1, v2, v3, v4, v5.nI kn⟩, a4, ⟨a5.tr x (fun y hy u => absurd v3.2.2.1 (by rw [u] at hy; exact hy)), a6⟩, ⟨l1.nI kn, l2.nI kn, l3.nI kn, l4.nI kn, l5⟩, nm, n1, x.2.2 _ _ n2⟩
theorem ndl.rx {k : Nat} (h : ndl q G00 G t k L) (hf : rx q.1 no9 G G') (hR : hp_kd G q.1.2.1 = 12) (hB : hp_kd G q.1.2.2.2.1 = 3) (ht : hp_kd G t = 8) : ndl q G00 G' t k L := by
  have kL := h.2.2.2.1.1
  obtain ⟨-, e2, -⟩ := hf.old hR hB (x := t) (by rw [ht]; decide) (fun u => u) (by rw [ht]; decide)
  exact ⟨by rw [e2]; exact h.1, h.2.1, h.2.2.1.cg (hf.1.lg (by rw [kL]; decide)), al_rx h.2.2.2 hR hB hf⟩
theorem hdI.scan (h : hdI q vk c S G00 G Lv hv cv Le Lc Lm Lr nml) (h1 : rat q.1 c' G') (h2 : rs q.1 G G') (hc : c ≤ c') : hdI q vk c' S G00 G' Lv hv cv Le Lc Lm Lr nml ∧ hp_i G' (qn q) = hp_i G (qn q) := by
  obtain ⟨hp, pn⟩ := (h.pst (X := fun _ => 0)).1.scan h1 h2
  obtain ⟨a1, a2, ⟨v1, v2, v3, v4, v5⟩, ⟨p1, p2, p3⟩, ⟨a5, a6⟩, ⟨l1, l2, l3, l4, l5⟩, nm, n1, n2⟩ := h
  have hR := a1.1.1.1
  have hB := a1.1.2.1.1
  have kn : hp_kd G (qn q) = 8 := a2.2.1.1
  have x : rx q.1 no9 G G' := pn.2.2.2.2.1
  have xk : rkk q.1 G G' := pn.2.2.2.2.2
  obtain ⟨e1, e2, -⟩ := x.old hR hB (x := qn q) (by rw [kn]; decide) (fun u => u) (by rw [kn]; decide)
  have kLv := v5.1.1
  refine ⟨⟨h1, hp.2.1, ⟨by show hp_r G' (qn q) 1 = some Lv; rw [e2]; exact v1, by show hp_r G' (qn q) 2 = some hv; rw [e2]; exact v2, v3, v4.cg (x.1.lg (by rw [kLv]; decide)), al_rx v5 hR hB x⟩, ⟨⟨p1.1, by have := p1.2.1; omega, h1.2.1, p1.2.2.2⟩, p2, p3⟩, ⟨a5.tr x (fun _ _ u => u), fun k hk => (xk k hk).trans (a6 k hk)⟩, ⟨l1.rx x hR hB kn, l2.rx x hR hB kn, l3.rx x hR hB kn, l4.rx x hR hB kn, l5⟩, nm, by rw [e2]; exact n1, x.2.2 _ _ n2⟩, e1⟩
theorem hdI.cgS (h : hdI q vk c S G00 G Lv hv cv Le Lc Lm Lr nml) (e : pE_same S S') (hI : pg_I (rz_n q.1) c S') (hg : gx S') : hdI q vk c S' G00 G Lv hv cv Le Lc Lm Lr nml := by
  obtain ⟨a1, a2, ⟨v1, v2, v3, v4, v5⟩, ⟨p1, p2, p3⟩, a5, a6, a7⟩ := h
  exact ⟨a1, by rw [e.v]; exact a2.cgE e, ⟨v1, v2, ⟨v3.1, v3.2.1, v3.2.2.1, by rw [e.a, e.v]; exact v3.2.2.2⟩, v4, by rw [e.v, e.a]; exact v5⟩, ⟨hI, hg, by rw [e.2.2.2 0 (by omega)]; exact p3⟩, a5, a6, a7⟩
end
