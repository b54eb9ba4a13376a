/-! THE COMPONENT's PARSER: objects under way; what whole makes -/
set_option maxRecDepth 100000
section
variable {w : WD} {M : MI} {pc r : Nat} {lv : List (Nat × WV)} {stk : List WV} {G G1 : GH} {j : JB}
/-- behind a call that used u: what else of its budget comes back -/
theorem wk_bk {u r' r2 : Nat} (h1 : hp_cs G + r ≤ j.2.2.2.2.1 + j.2.1) (h2 : hp_ss G + 12 * r ≤ j.2.2.2.2.2 + 12 * j.2.1) (hc : cb u G G1) (hu : u + r' ≤ r) (k : wk_V w M j pc lv stk G1 r') : wk_V w M j pc lv stk G1 r2 :=
  wk_raise (by have := hc.1; omega) (by have := hc.2; omega) k
end
theorem getD_memN {l : List Nat} {i : Nat} (h : i < l.length) : l.getD i 0 ∈ l := by
  rw [ls_get h]
  exact List.getElem_mem h
theorem md_dep_22 {S S' : MS} {a : Nat} (h : S'.2 22 = S.2 22) : ∀ f v, md_dep S' a f v = md_dep S a f v := by
  intro f
  induction f with
  | zero => intro v; rfl
  | succ f ih =>
    intro v
    rw [md_dep, md_dep, h]
    split
    · rfl
    · rw [ih]
section
variable {q : PZ} {S S' S0 : MS} {G G' G0 : GH} {X X' X0 : Nat → Nat} {lo : Nat}
theorem vx.cgS {v : Nat} (h : vx q S G v) (e : pe_same S S') : vx q S' G v := by
  have k : ∀ k, 10 ≤ k → k ≤ 31 → k ≠ 16 → k ≠ 17 → S'.2 k = S.2 k := fun k a b c d => e.2 k c d (by omega)
  have n2 : nlv (rz_T q.1) S' = nlv (rz_T q.1) S := by unfold nlv; rw [k 20 (by omega) (by omega) (by omega) (by omega), k 21 (by omega) (by omega) (by omega) (by omega)]
  unfold vx at h ⊢
  rw [e.a, n2, k 24 (by omega) (by omega) (by omega) (by omega), k 22 (by omega) (by omega) (by omega) (by omega), md_dep_22 (k 22 (by omega) (by omega) (by omega) (by omega))]
  exact h
theorem env.cgS {b : Nat} (h : env q S b G) (e : pe_same S S') : env q S' b G := by
  have k : ∀ k, 10 ≤ k → k ≤ 31 → k ≠ 16 → k ≠ 17 → S'.2 k = S.2 k := fun k a b c d => e.2 k c d (by omega)
  have n1 : nln (rz_T q.1) S' = nln (rz_T q.1) S := by unfold nln; rw [k 10 (by omega) (by omega) (by omega) (by omega), k 11 (by omega) (by omega) (by omega) (by omega)]
  have n2 : nlv (rz_T q.1) S' = nlv (rz_T q.1) S := by unfold nlv; rw [k 20 (by omega) (by omega) (by omega) (by omega), k 21 (by omega) (by omega) (by omega) (by omega)]
  obtain ⟨h1, h2, h3, h4, h5, h6⟩ := h
  refine ⟨h1, h2, ?_, ?_, ?_, fun v v1 v2 => (h6 v (by rw [← e.a]; exact v1) v2).cgS e⟩
  · rw [e.N, n1]; exact h3
  · rw [e.a, n2]; exact h4
  · rw [e.N]; exact h5
/-- an object t under way, made since G0: of the kind k, with the parts ks so far in the list L of the length c -/
def pd (q : PZ) (lo : Nat) (S : MS) (G0 G : GH) (X : Nat → Nat) (t k : Nat) (ks : List Nat) (c L : Nat) : Prop :=
  (hp_kd G t = k ∧ hp_A q.1.1 t ∧ hp_kd G0 t = 0) ∧ (hp_i G t 2 = 1 ∧ hp_r G t 4 = some q.1.2.2.2.1) ∧ (hp_r G t 3 = some L ∧ ow G L t ∧ hp_kd G0 L = 0 ∧ al q.1.1 G L ks.length c (fun i => some (X (ks.getD i 0)))) ∧ (∀ o, hp_r G L 0 = some o → c = 0 ∨ hp_kd G0 o = 0) ∧ (∀ e, lo ≤ e → e < pr_p S → X e ≠ t) ∧ ∀ e ∈ ks, lo ≤ e ∧ e < pr_p S
theorem pd.pin {t k c L c0 : Nat} {ks : List Nat} (h : pd q lo S G0 G X t k ks c L) (hk : 15 ≤ k ∧ k ≤ 21) (hp : pst q lo c0 S X G) (h2 : pin q S X G S' X' G') : pd q lo S' G0 G' X' t k ks c L ∧ hp_i G' t = hp_i G t ∧ hp_r G' t = hp_r G t := by
  obtain ⟨⟨t1, t2, t3⟩, ⟨t4, t5⟩, ⟨L1, L2, L3, L4⟩, L5, nx, hks⟩ := h
  obtain ⟨p1, p2, p3, p4, p5, p6⟩ := h2
  have hR := hp.1.1.1.1
  have hB := hp.1.1.2.1.1
  have kL := L4.1.1
  obtain ⟨e1, e2, e3⟩ := p5.old hR hB (x := t) (by omega) (fun u => u) (by omega)
  obtain ⟨f1, f2, f3⟩ := p5.old hR hB (x := L) (by rw [kL]; decide) (fun u => u) (by rw [kL]; decide)
  refine ⟨⟨⟨p5.1.k t1 (by omega), t2, t3⟩, ⟨by rw [e1]; exact t4, by rw [e2]; exact t5⟩, ⟨by rw [e2]; exact L1, L2.cg f3, L3, ?_⟩, fun o ho => L5 o (by rw [f2] at ho; exact ho), fun e h1 h2 => ?_, fun e he => ⟨(hks e he).1, by have := (hks e he).2; omega⟩⟩, e1, e2⟩
  · refine (L4.fr p5.1 ?_ (fun y _ hy => ?_)).cg (fun i hi => ?_)
    · rintro (u | u | u | u)
      · exact u
      · rw [u, hR] at kL; cases kL
      · rw [u, hB] at kL; cases kL
      · rw [u] at kL; cases kL
    · rintro (u | u | u | u)
      · exact u
      · rw [u, hR] at hy; cases hy
      · rw [u, hB] at hy; cases hy
      · rw [u] at hy; cases hy
    · show some (X' (ks.getD i 0)) = some (X (ks.getD i 0))
      rw [p3 _ (hks _ (getD_memN hi)).2]
  · rcases Nat.lt_or_ge e (pr_p S) with u | u
    · rw [p3 e u]; exact nx e h1 u
    · intro v
      have := p4 e u h2
      rw [v, t1] at this
      omega
/-- a new object whose constructor has run, and perhaps fields behind the fourth -/
theorem pd_new {t k c0 : Nat} {G2 G3 : GH} (hp : pst q lo c0 S X G) (h0 : pin q S0 X0 G0 S X G) (ht : hp_kd G t = 0) (hA : hp_A q.1.1 t) (hk : 15 ≤ k ∧ k ≤ 21) (h : to_P q.1.1 (hp_nw G t k 0) t (some q.1.2.2.2.1) G2) (hf : cf (fun y => y = t) G2 G3) (e2 : hp_i G3 t 2 = hp_i G2 t 2) (e3 : hp_r G3 t 3 = hp_r G2 t 3 ∧ hp_r G3 t 4 = hp_r G2 t 4) :
    ∃ L, pst q lo c0 S X G3 ∧ pd q lo S G0 G3 X t k [] 0 L ∧ pin q S0 X0 G0 S X G3 ∧ ∀ y, y ≠ t → hp_kd G y ≠ 0 → hp_i G3 y = hp_i G y ∧ hp_r G3 y = hp_r G y := by
  obtain ⟨L, l1, l2, ⟨n1, n2, n3, n4, n5⟩, l4, l5, l6⟩ := h
  have kt1 : hp_kd (hp_nw G t k 0) t = k := by rw [hp_kd_nw, if_pos rfl]
  have kt2 : hp_kd G2 t = k := l4.k kt1 (by omega)
  have kt3 : hp_kd G3 t = k := hf.k kt2 (by omega)
  have hL : hp_kd G L = 0 := by rw [hp_kd_nw, if_neg l2] at l1; exact l1
  have f1 : cf (fun _ => False) G G3 := (((cf.rf (own := fun _ => False)).nw ht (c := k) (n := 0)).tr2 l4 (fun a ha u => by rw [u] at ha; exact absurd ht ha)).tr2 hf (fun a ha u => by rw [u] at ha; exact absurd ht ha)
  have hrx := rx_of (z := q.1) f1 (fun a u => u.elim)
  have hR := hp.1.1.1.1
  have al3 : al q.1.1 G3 L 0 0 (fun i => some (X (([] : List Nat).getD i 0))) := (n5.fr hf l2 (fun y _ hy u => by rw [u, kt2] at hy; omega)).cg (fun i hi => by omega)
  have hf0 : cf _ G0 G := h0.2.2.2.2.1.1
  refine ⟨L, hp.wr f1 (fun y u => u.elim) (fun _ _ _ _ _ u => u), ⟨⟨kt3, hA, hf0.fresh ht⟩, ⟨e2.trans n1, e3.2.trans n3⟩, ⟨e3.1.trans n2, n4.cg (hf.lg (by rw [n5.1.1]; decide)), hf0.fresh hL, al3⟩, fun _ _ => Or.inl rfl, fun e h1 h2 u => ?_, fun e he => by cases he⟩, h0.tr ⟨pe_same.rf, Nat.le_refl _, fun _ _ => rfl, fun j a b => absurd b (by omega), ⟨hrx.1.mono (fun a _ u => u.imp (fun v => v.elim) id), hrx.2⟩, fun k _ => by rw [f1.r (by rw [hR]; decide) (fun u => u)]⟩, fun y hy hk => ⟨f1.i hk (fun u => u), f1.r hk (fun u => u)⟩⟩
  have := (hp.2.2.1 e h1 h2).1.1.1
  rw [u, ht] at this
  have := xk_r (S.2 32 e)
  omega
/-- a part more -/
theorem pd_add {t k c L c0 e d : Nat} {ks : List Nat} (hp : pst q lo c0 S X G) (h0 : pin q S0 X0 G0 S X G) (h : pd q lo S G0 G X t k ks c L) (hk : 15 ≤ k ∧ k ≤ 21) (he : lo ≤ e ∧ e < pr_p S) (hn : ks.length < 2 ^ 20) (hd : 6 ≤ d) :
    wk_C q.1.1 mJ5_add d (al_b ks.length c) [vR (some L), vR (some (X e))] G (fun v G' => v = some (vI 1) ∧ pst q lo c0 S X G' ∧ pin q S0 X0 G0 S X G' ∧ pd q lo S G0 G' X t k (ks ++ [e]) (al_c ks.length c) L ∧ hp_i G' t = hp_i G t ∧ hp_r G' t = hp_r G t) (fun _ _ _ => False) := by
  obtain ⟨⟨t1, t2, t3⟩, ⟨t4, t5⟩, ⟨L1, L2, L3, L4⟩, L5, nx, hks⟩ := h
  have kX := (hp.2.2.1 e he.1 he.2).1.1.1
  have kr := xk_r (S.2 32 e)
  have kL := L4.1.1
  have hR := hp.1.1.1.1
  refine (J5_add_C (x := some (X e)) L4 hp.2.1.1.2.1 (fun y hy => by rw [← Option.some.inj hy, kX]; omega) hn hd).mono ?_ (fun _ _ _ u => u)
  rintro v G' ⟨rfl, h2, h3, h4⟩
  have nt : ¬ al_w G L ks.length c t := by
    rintro (u | ⟨-, -, -, u⟩)
    · rw [u, kL] at t1; omega
    · rw [t1] at u; omega
  have k9 : ∀ y, al_w G L ks.length c y → ok9 (hp_kd G y) := by
    rintro y (u | ⟨-, -, -, u⟩)
    · rw [u, kL]; exact Or.inl ⟨by decide, by decide⟩
    · exact Or.inr (Or.inl u)
  have hxc : ∀ e, lo ≤ e → e < pr_p S → ∀ y, xc G (X e) y → ¬ al_w G L ks.length c y := by
    intro e h1 h2 y hy hu
    have k1 := (hp.2.2.1 e h1 h2).1.1.1
    have k2 := xk_r (S.2 32 e)
    have n1 := nx e h1 h2
    rcases hu with u | ⟨-, -, u3, u4⟩
    · subst u
      rcases hy with v | ⟨v, -⟩ | ⟨L', -, -, v⟩
      · rw [v, k1] at kL; omega
      · exact n1 (v.uq L2)
      · rw [kL] at v; cases v
    · rcases hy with v | ⟨-, v⟩ | ⟨L', ⟨v1, v2⟩, v3, -⟩
      · rw [v, k1] at u4; omega
      · rw [u4] at v; cases v
      · have : L' = L := v3.uq u3
        rw [this] at v1
        exact n1 (v1.uq L2)
  have hfr : ∀ y, al_w G L ks.length c y → hp_kd G0 y = 0 := by
    rintro y (u | ⟨u1, u2, -⟩)
    · rw [u]; exact L3
    · rcases L5 y u2 with v | v
      · omega
      · exact v
  have hrx := rx_of (z := q.1) h3 (fun a u => by have := k9 a u; unfold ok9 at this; omega)
  have nR : ¬ al_w G L ks.length c q.1.2.1 := fun u => by have := k9 _ u; unfold ok9 at this; omega
  obtain ⟨p1, p2, p3, p4, p5, p6⟩ := id h0
  have kt0 : hp_kd G t ≠ 0 := by omega
  refine ⟨rfl, hp.wr h3 k9 hxc, ⟨p1, p2, p3, p4, p5.tr hrx (fun a ha u => absurd (hfr a u) ha), fun k hk => by rw [h3.r (by rw [hR]; decide) nR]; exact p6 k hk⟩, ⟨⟨h3.k t1 (by omega), t2, t3⟩, ⟨by rw [h3.i kt0 nt]; exact t4, by rw [h3.r kt0 nt]; exact t5⟩, ⟨by rw [h3.r kt0 nt]; exact L1, L2.cg (h3.lg (by rw [kL]; decide)), L3, ?_⟩, fun o ho => ?_, nx, fun x hx => ?_⟩, h3.i kt0 nt, h3.r kt0 nt⟩
  · rw [List.length_append, List.length_singleton]
    refine h2.cg (fun i hi => ?_)
    show some (X ((ks ++ [e]).getD i 0)) = if i = ks.length then some (X e) else some (X (ks.getD i 0))
    by_cases u : i = ks.length
    · rw [if_pos u, u, List.getD_eq_getElem?_getD, List.getElem?_append_right (Nat.le_refl _), Nat.sub_self]
      rfl
    · rw [if_neg u, List.getD_eq_getElem?_getD, List.getElem?_append_left (by omega), ← List.getD_eq_getElem?_getD]
  · rcases h4 o ho with ⟨u1, u2⟩ | u
    · rcases L5 o u2 with v | v
      · omega
      · exact Or.inr v
    · exact Or.inr (p5.1.fresh u)
  · rcases List.mem_append.1 hx with u | u
    · exact hks x u
    · rw [List.mem_singleton.1 u]; exact he
end
/-- the calls' many values with one more -/
def qU (q : PZ) (e : Nat) (v : Option (Nat × Nat)) : PZ := (q.1, q.2.1, q.2.2.1, q.2.2.2.1, fun j => if j = e then v else qM q j)
theorem qU_self {q : PZ} {e : Nat} : qU q e (qM q e) = q := by
  have h : (fun j => if j = e then qM q e else qM q j) = q.2.2.2.2 := by
    funext j
    by_cases u : j = e
    · rw [if_pos u, u]; rfl
    · rw [if_neg u]; rfl
  unfold qU
  rw [h]
/-- heights -/
theorem hgt_list (H : Nat → Int32) : ∀ n a, hgt H n a = ((List.range n).map H).foldl (fun h x => if h < 1 + x then 1 + x else h) a := by
  intro n
  induction n with
  | zero => intro a; rfl
  | succ n ih =>
    intro a
    rw [List.range_succ, List.map_append, List.foldl_append, ← ih]
    rfl
theorem hgt_nat {H : Nat → Int32} {Hn : Nat → Nat} : ∀ n a, a ≤ 1000 → (∀ i, i < n → Hn i ≤ 200 ∧ H i = nI (Hn i)) → ∃ m, hgt H n (nI a) = nI m ∧ a ≤ m ∧ m ≤ 1000 ∧ ∀ i, i < n → Hn i < m := by
  intro n
  induction n with
  | zero => intro a ha _; exact ⟨a, rfl, Nat.le_refl _, ha, fun i hi => by omega⟩
  | succ n ih =>
    intro a ha h
    obtain ⟨m, w1, w2, w3, w4⟩ := ih a ha (fun i hi => h i (by omega))
    obtain ⟨h1, h2⟩ := h n (by omega)
    have e : (1 : Int32) + H n = nI (1 + Hn n) := by rw [h2, show (1 : Int32) = nI 1 from rfl, nI_add]
    show ∃ m, (if hgt H n (nI a) < 1 + H n then 1 + H n else hgt H n (nI a)) = nI m ∧ _
    rw [e, w1]
    by_cases q : m < 1 + Hn n
    · rw [if_pos (nI_lt q (by omega))]
      refine ⟨1 + Hn n, rfl, by omega, by omega, fun i hi => ?_⟩
      rcases Nat.lt_or_ge i n with u | u
      · have := w4 i u; omega
      · rw [show i = n by omega]; omega
    · rw [if_neg (nI_nlt (by omega) (by omega))]
      refine ⟨m, rfl, w2, w3, fun i hi => ?_⟩
      rcases Nat.lt_or_ge i n with u | u
      · exact w4 i u
      · rw [show i = n by omega]; omega
theorem pm_kid_39 {p k : Nat} {σ : MS} (h : k ≠ p) : (pm_kid p σ k).2 39 p = if σ.2 39 p < 1 + σ.2 39 k then 1 + σ.2 39 k else σ.2 39 p := by
  unfold pm_kid
  rw [ml_sa_a, if_pos rfl, if_pos rfl]
  have e : ∀ j, (ml_sa σ 38 p (σ.2 38 p + σ.2 38 k)).2 39 j = σ.2 39 j := fun j => by rw [ml_sa_a, if_neg (by decide)]
  rw [e, e, Int32.add_comm]
theorem pm_hgt {p : Nat} : ∀ (ks : List Nat) (σ : MS), (∀ k ∈ ks, k ≠ p) → (ks.foldl (pm_kid p) σ).2 39 p = (ks.map (σ.2 39)).foldl (fun h x => if h < 1 + x then 1 + x else h) (σ.2 39 p)
  | [], _, _ => rfl
  | k :: ks, σ, h => by
    have hk := h k List.mem_cons_self
    have ih := pm_hgt ks (pm_kid p σ k) (fun x hx => h x (List.mem_cons_of_mem _ hx))
    rw [List.foldl_cons, ih, List.map_cons, List.foldl_cons, pm_kid_39 hk]
    congr 1
    refine List.map_congr_left fun x hx => ?_
    exact pm_kid_2 (Or.inr (h x (List.mem_cons_of_mem _ hx)))
theorem hgt_mk {S : MS} {p : Nat} {kind what : Int32} {ks : List Nat} (h : ∀ k ∈ ks, k ≠ p) : hgt (fun i => S.2 39 (ks.getD i 0)) ks.length 1 = (pm_mk S p kind what ks).2 39 p := by
  unfold pm_mk
  rw [pm_hgt ks _ h, hgt_list]
  have e0 : (pm_0 S p kind what (pm_first ks)).2 39 p = 1 := by
    unfold pm_0
    rw [ml_sa_a, if_pos rfl, if_pos rfl]
  rw [e0]
  congr 1
  refine List.ext_getElem (by rw [List.length_map, List.length_range, List.length_map]) fun i h1 h2 => ?_
  rw [List.length_map] at h2
  rw [List.getElem_map, List.getElem_map, List.getElem_range, ls_get h2]
  exact (pm_0_2 (Or.inl (h _ (List.getElem_mem h2)))).symm
section
variable {q : PZ} {S S' S0 : MS} {G G' G0 : GH} {X X' X0 : Nat → Nat} {lo p : Nat} {mv : Option (Nat × Nat)}
theorem xw.cg {q q' : PZ} {a e x : Nat} {s o : Int32} (h : xw q a G e x s o) (h1 : q'.1 = q.1) (h2 : qV q' = qV q) (h3 : qN q' = qN q) (h4 : qM q' e = qM q e) : xw q' a G e x s o := by
  unfold xw at h ⊢
  rw [h1, h2, h3, h4]
  exact h
theorem vx.qU {v e : Nat} (h : vx q S G v) : vx (qU q e mv) S G v := h
theorem env.qU {b e : Nat} (h : env q S b G) : env (qU q e mv) S b G := h
/-- the state and the objects with one expression more -/
theorem pst_mk {c t : Nat} {kind what : Int32} {ks : List Nat} (h : pst q lo c S X G) (ht : hp_kd G t = xk kind ∧ hp_A q.1.1 t) (hi : hp_i G t 2 = S'.2 39 p) (hw : xw (qU q p mv) (pr_a S) G p t kind what) (hch : md_ch (S.2 35) (pm_first ks) ks) (hks : ∀ k ∈ ks, k < p) (hxl : 3 ≤ kind → xl q G X t ks) (hM : pe_M S S' p kind what ks) (hp : S.1 40 = nI p) (hp2 : p < 2 ^ 30) (hne : ∀ j, lo ≤ j → j < p → X j ≠ t) (hht : ∃ m, (1 ≤ m ∧ m ≤ 200 ∧ S'.2 39 p = nI m) ∧ ∀ k ∈ ks, xh S k < m) : pst (qU q p mv) lo c S' (hp_u1 X p t) G := by
  obtain ⟨h1, h2, h3, h4⟩ := h
  obtain ⟨m1, m2, m3, m4, m5, m6, m7, m8⟩ := hM
  have ep : pr_p S = p := by rw [pr_p, hp, nI_clamp (by omega)]
  have ep' : pr_p S' = p + 1 := by rw [pr_p, m2, nI_clamp (by omega)]
  have ux : ∀ j, j < p → hp_u1 X p t j = X j := fun j hj => by unfold hp_u1; rw [if_neg (by omega)]
  have up : hp_u1 X p t p = t := by unfold hp_u1; rw [if_pos rfl]
  have lx : ∀ x ks, (∀ k ∈ ks, k < p) → xl q G X x ks → xl (qU q p mv) G (hp_u1 X p t) x ks := by
    rintro x ks hk ⟨a1, L, c, a2, a3, a4⟩
    exact ⟨a1, L, c, a2, a3, a4.cg (fun i hi => by show some (hp_u1 X p t (ks.getD i 0)) = some (X (ks.getD i 0)); rw [ux _ (hk _ (getD_memN hi))])⟩
  refine ⟨h1, ?_, fun e e1 e2 => ?_, by rw [m1.2 0 (by decide) (by decide) (by decide)]; exact h4⟩
  · have : pr_v S' = pr_v S := m1.v
    rw [this]
    exact (h2.cgS m1).qU
  · rw [ep'] at e2
    by_cases u : e = p
    · subst u
      have hhx : xht S' e := by
        obtain ⟨m, ⟨w1, w2, w3⟩, w4⟩ := hht
        have en : xh S' e = m := by unfold xh; rw [w3, nI_clamp (by omega)]
        refine ⟨⟨by omega, by omega, by rw [en]; exact w3⟩, ks, ?_, fun k hk => ⟨hks k hk, ?_⟩⟩
        · rw [m6]
          exact md_ch_cg ks _ (fun k hk => (m3 35 k (by decide) (by decide) (by have := hks k hk; omega)).symm) hch
        · have ek : xh S' k = xh S k := by unfold xh; rw [m3 39 k (by decide) (by decide) (by have := hks k hk; omega)]
          rw [en, ek]
          exact w4 k hk
      unfold xe
      rw [up, m4, m5, m6, m1.a]
      exact ⟨⟨ht, hi, hw, ks, md_ch_cg ks _ (fun k hk => (m3 35 k (by decide) (by decide) (by have := hks k hk; omega)).symm) hch, hks, fun v => lx t ks hks (hxl v)⟩, fun j j1 j2 => by rw [ux j j2]; exact hne j j1 j2, hhx⟩
    · have e3 : e < p := by omega
      obtain ⟨⟨g1, g2, g3, ks', g4, g5, g6⟩, g7, g8, ks2, g9, g10⟩ := h3 e e1 (by omega)
      have eh : ∀ k, k < p → xh S' k = xh S k := fun k hk => by unfold xh; rw [m3 39 k (by decide) (by decide) (by omega)]
      have hhx : xht S' e := by
        refine ⟨⟨by rw [eh e e3]; exact g8.1, by rw [eh e e3]; exact g8.2.1, by rw [eh e e3, m3 39 e (by decide) (by decide) u]; exact g8.2.2⟩, ks2, ?_, fun k hk => ⟨(g10 k hk).1, ?_⟩⟩
        · rw [m3 34 e (by decide) (by decide) u]
          exact md_ch_cg ks2 _ (fun k hk => (m3 35 k (by decide) (by decide) (by have := (g10 k hk).1; omega)).symm) g9
        · rw [eh e e3, eh k (by have := (g10 k hk).1; omega)]
          exact (g10 k hk).2
      have m : ∀ q, 32 ≤ q → q ≤ 39 → S'.2 q e = S.2 q e := fun q a b => m3 q e a b u
      unfold xe
      rw [ux e e3, m 32 (by decide) (by decide), m 33 (by decide) (by decide), m 34 (by decide) (by decide), m 39 (by decide) (by decide), m1.a]
      refine ⟨⟨g1, g2, g3.cg rfl rfl rfl (if_neg u), ks', md_ch_cg ks' _ (fun k hk => (m3 35 k (by decide) (by decide) (by have := g5 k hk; omega)).symm) g4, g5, fun v => lx (X e) ks' (fun k hk => by have := g5 k hk; omega) (g6 v)⟩, fun j j1 j2 => by rw [ux j (by omega)]; exact g7 j j1 j2, hhx⟩
/-- the making of a leaf -/
theorem leaf_mk {c c1 t : Nat} {kind what : Int32} {r : PE} (h : pst q lo c S X G) (h0 : pin q S0 X0 G0 S X G) (ht0 : hp_kd G t = 0) (hf : cf (fun _ => False) G G') (ht : hp_kd G' t = xk kind ∧ hp_A q.1.1 t) (hi : hp_i G' t 2 = 1) (hk : kind = 0 ∨ kind = 1 ∨ kind = 2) (hw : xw (qU q p (qM q p)) (pr_a S) G' p t kind what) (hr : pr_make S kind what [] c1 = some r) (hp : S.1 40 = nI p) (hp2 : p < 2 ^ 30) :
    ∃ S', r = .inr (p, c1, S') ∧ pst q lo c S' (hp_u1 X p t) G' ∧ pin q S0 X0 G0 S' (hp_u1 X p t) G' := by
  have ep : pr_p S = p := by rw [pr_p, hp, nI_clamp (by omega)]
  have hr0 := hr
  have e1 : (pm_mk S p kind what []).2 39 p = 1 := by
    rw [← hgt_mk (S := S) (p := p) (kind := kind) (what := what) (ks := []) (fun k hk => by cases hk)]
    rfl
  unfold pr_make at hr
  rw [ep, e1, if_pos (by decide)] at hr
  have hr1 := (Option.some.inj hr).symm
  subst hr1
  obtain ⟨-, -, hM⟩ := pr_make_ok hr0 hp (by omega)
  have hR := h.1.1.1.1
  have hrx := rx_of (z := q.1) hf (fun a u => u.elim)
  have h1 : pst q lo c S X G' := h.wr hf (fun y u => u.elim) (fun _ _ _ _ _ u => u)
  refine ⟨_, rfl, ?_, ?_⟩
  · have := pst_mk (mv := qM q p) (ks := []) h1 ht (by
      show hp_i G' t 2 = (pm_fin _ _ _ _).2 39 p
      rw [pm_fin_2 ⟨by decide, by omega⟩, e1]; exact hi) hw (by show (-1 : Int32) < 0; decide) (fun k hk => by cases hk) (fun u => by rcases hk with e | e | e <;> rw [e] at u <;> exact absurd u (by decide)) hM hp hp2 (fun j j1 j2 u => by
      have k1 := (h.2.2.1 j j1 (by omega)).1.1.1
      have k2 := xk_r (S.2 32 j)
      rw [u, ht0] at k1
      omega) ⟨1, ⟨Nat.le_refl _, by decide, by
        show (pm_fin _ _ _ _).2 39 p = _
        rw [pm_fin_2 ⟨by decide, by omega⟩, e1]; rfl⟩, fun k hk => by cases hk⟩
    rw [qU_self] at this
    exact this
  · obtain ⟨p1, p2, p3, p4, p5, p6⟩ := h0
    have ep' : pr_p (pm_fin (pr_N S) kind p (pm_mk S p kind what [])) = p + 1 := by rw [pr_p, hM.2.1, nI_clamp (by omega)]
    refine ⟨p1.tr hM.1, by omega, fun j hj => ?_, fun j hj hj2 => ?_, p5.tr hrx (fun _ _ u => u.elim), fun k hk => by rw [hf.r (by rw [hR]; decide) (fun u => u)]; exact p6 k hk⟩
    · unfold hp_u1; rw [if_neg (by omega)]; exact p3 j hj
    · unfold hp_u1
      by_cases u : j = p
      · rw [if_pos u]; exact p5.1.fresh ht0
      · rw [if_neg u]; exact p4 j hj (by omega)
theorem xk_15 {kind : Int32} (h : 3 ≤ kind ∧ kind ≤ 26) : 15 ≤ xk kind ∧ xk kind ≤ 21 := by
  obtain ⟨k, hk, e⟩ := nI_of2 (x := kind) (M := 26) (n := 26) (by decide) (fun q => Int32.not_lt.2 (Int32.le_trans (show (0 : Int32) ≤ 3 by decide) h.1) q) h.2
  have h3 : 3 ≤ k := by
    have := h.1
    rw [e, show (3 : Int32) = nI 3 from rfl, nI_leI (by decide) (by omega)] at this
    exact this
  have : ∀ k, k < 27 → 3 ≤ k → 15 ≤ xk (nI k) ∧ xk (nI k) ≤ 21 := by decide
  rw [e]
  exact this k (by omega) h3
/-- whole, of an object under way: the expression is made -/
theorem X3_wh_C {t c cc L d : Nat} {kind what : Int32} {ks : List Nat} {r : PE} (h : pst q lo c S X G) (h0 : pin q S0 X0 G0 S X G) (hpd : pd q lo S G0 G X t (xk kind) ks cc L) (hk : 3 ≤ kind ∧ kind ≤ 26) (hw : xw (qU q p mv) (pr_a S) G p t kind what) (hch : md_ch (S.2 35) (pm_first ks) ks) (hr : pr_make S kind what ks c = some r) (hp : S.1 40 = nI p) (hp2 : p < 2 ^ 30) (hd : 3 ≤ d) :
    wk_C q.1.1 mX3_whole d 0 [vR (some q.1.2.1), vR (some t)] G (fun v G' => v = some (vR (some t)) ∧ ∃ S', r = .inr (p, c, S') ∧ pst (qU q p mv) lo c S' (hp_u1 X p t) G' ∧ pin q S0 X0 G0 S' (hp_u1 X p t) G') (fun E a G' => r = .inl (3, c) ∧ er q.1 no9 G0 3 c E a G') := by
  have hxk := xk_15 hk
  have ep : pr_p S = p := by rw [pr_p, hp, nI_clamp (by omega)]
  obtain ⟨⟨t1, t2, t3⟩, ⟨t4, t5⟩, ⟨L1, L2, L3, L4⟩, L5, nx, hks⟩ := hpd
  have hks2 : ∀ k ∈ ks, k < p := fun k hk => by rw [← ep]; exact (hks k hk).2
  have hR := h.1.1.1.1
  have hgk := hgt_mk (S := S) (p := p) (kind := kind) (what := what) (ks := ks) (fun k hk => by have := hks2 k hk; omega)
  have hr0 := hr
  unfold pr_make at hr
  rw [ep] at hr
  obtain ⟨p1, p2, p3, p4, p5, p6⟩ := id h0
  have nR : ¬ q.1.2.1 = t := fun u => by rw [u] at hR; omega
  refine (X3_whole_C (H := fun i => S.2 39 (ks.getD i 0)) (xs := fun i => X (ks.getD i 0)) h.1 (by rw [t1]; exact hxk) t2 L1 L4 (fun i hi => ?_) hd).mono ?_ ?_
  · obtain ⟨a1, a2⟩ := hks _ (getD_memN hi)
    obtain ⟨b1, b2, -⟩ := (h.2.2.1 _ a1 a2).1
    have := xk_r (S.2 32 (ks.getD i 0))
    exact ⟨by rw [b1.1]; exact this, b2, nx _ a1 a2⟩
  · rintro v G' ⟨g1, rfl, w1, w2, w3, w4, w5⟩
    rw [t4] at g1 w2
    rw [hgk] at g1
    rw [if_pos g1] at hr
    have hr1 := (Option.some.inj hr).symm
    subst hr1
    obtain ⟨-, -, hM⟩ := pr_make_ok hr0 hp (by omega)
    have k9 : ∀ y, y = t → ok9 (hp_kd G y) := fun y u => Or.inl (by rw [u, t1]; omega)
    have hxc : ∀ e, lo ≤ e → e < pr_p S → ∀ y, xc G (X e) y → ¬ y = t := by
      intro e a1 a2 y hy u
      subst u
      rcases hy with v | ⟨-, v⟩ | ⟨L', -, -, v⟩
      · exact nx e a1 a2 v.symm
      · omega
      · omega
    have hrx := rx_of (z := q.1) w1 (fun a u => by rw [u, t1]; omega)
    refine ⟨rfl, _, rfl, ?_, ?_⟩
    · refine pst_mk (ks := ks) (h.wr w1 k9 hxc) ⟨w1.k t1 (by omega), t2⟩ ?_ ?_ hch hks2 (fun _ => ⟨by rw [w4]; exact t5, L, cc, by rw [w4]; exact L1, L2.cg (w1.lg (by rw [L4.1.1]; decide)), L4.fr w1 (fun u => ?_) (fun y _ hy u => ?_)⟩) hM hp hp2 (fun j j1 j2 => nx j j1 (by omega)) ?_
      · show hp_i G' t 2 = (pm_fin _ _ _ _).2 39 p
        rw [pm_fin_2 ⟨by decide, by omega⟩, w2, hgk]
      · have ei : ∀ k, k ≠ 2 → hp_i G' t k = hp_i G t k := w3
        unfold xw at hw ⊢
        rw [ei 3 (by decide), ei 5 (by decide), ei 6 (by decide), w4, w4, w4, w4]
        exact hw
      · have := L4.1.1; rw [u, t1] at this; omega
      · rw [u, t1] at hy; omega
      · have hH : ∀ i, i < ks.length → xh S (ks.getD i 0) ≤ 200 ∧ S.2 39 (ks.getD i 0) = nI (xh S (ks.getD i 0)) := fun i hi => by
          obtain ⟨a1, a2⟩ := hks _ (getD_memN hi)
          exact (h.2.2.1 _ a1 a2).2.2.1.2
        obtain ⟨m, w1, w2, w3, w4⟩ := hgt_nat (H := fun i => S.2 39 (ks.getD i 0)) (Hn := fun i => xh S (ks.getD i 0)) ks.length 1 (by decide) hH
        rw [← hgk, show (1 : Int32) = nI 1 from rfl, w1] at g1
        have m200 := (nI_leI (a := m) (b := 200) (by omega) (by decide)).1 g1
        refine ⟨m, ⟨w2, m200, ?_⟩, fun k hk => ?_⟩
        · show (pm_fin _ _ _ _).2 39 p = _
          rw [pm_fin_2 ⟨by decide, by omega⟩, ← hgk]
          exact w1
        · obtain ⟨i, hi, e⟩ := List.mem_iff_getElem.1 hk
          have := w4 i hi
          rw [ls_get hi, e] at this
          exact this
    · have ep' : pr_p (pm_fin (pr_N S) kind p (pm_mk S p kind what ks)) = p + 1 := by rw [pr_p, hM.2.1, nI_clamp (by omega)]
      refine ⟨p1.tr hM.1, by omega, fun j hj => ?_, fun j hj hj2 => ?_, p5.tr hrx (fun a ha u => by rw [u] at ha; exact absurd t3 ha), fun k hk => by rw [w1.r (by rw [hR]; decide) nR]; exact p6 k hk⟩
      · unfold hp_u1; rw [if_neg (by omega)]; exact p3 j hj
      · unfold hp_u1
        by_cases u : j = p
        · rw [if_pos u]; exact t3
        · rw [if_neg u]; exact p4 j hj (by omega)
  · rintro E a G' ⟨g1, g2⟩
    rw [t4, hgk] at g1
    rw [if_neg g1] at hr
    exact ⟨(Option.some.inj hr).symm, g2.of p5 (fun k hk => p6 k (by omega)) (fun a ha u => by rw [u] at ha; exact absurd t3 ha)⟩
end
