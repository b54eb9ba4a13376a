/-! treeifyBin -/
set_option maxRecDepth 100000
section
variable {w : WD} {d : Nat} {G : GH} {a t k i : Nat}
/-- the loop: new nodes of a tree for a bin's -/
theorem tb_loop {J : JB} {r : Nat} {ns : List Nat} (ka : hp_kd G a = 23) (hk : ∀ x ∈ ns, 24 ≤ hp_kd G x ∧ hp_kd G x ≤ 25) (hJ : 5 ≤ J.1) (kt : ∀ G' ys f h0, cpn w G G' a 25 f ns ys → hch G' (some h0) ys → hpv G' none ys → cf (fun _ => False) G G' → wk_V w mJ7_treeifyBin J 93 [(1, vR (some t)), (4, vI (nI i)), (6, vR (some h0))] [] G' r) (hX : J.2.2.2.1 = fun _ _ _ => False) :
    ∀ (rest P ys : List Nat) (f : Nat → Nat) (G1 : GH) (hd0 : Option Nat) (x : Nat), ns = P ++ x :: rest → cpn w G G1 a 25 f P ys → hch G1 hd0 ys → hpv G1 none ys → cf (fun _ => False) G G1 → hch G (hp_r G x 3) rest →
      wk_V w mJ7_treeifyBin J 43 [(0, vR (some a)), (1, vR (some t)), (4, vI (nI i)), (5, vR (some x)), (6, vR hd0), (7, vR (lst none ys))] [] G1 (r + (x :: rest).length) := by
  obtain ⟨dJ, bJ, PJ, PXJ, cJ, sJ⟩ := J
  have hX' : PXJ = fun _ _ _ => False := hX
  subst hX'
  have hJ' : 5 ≤ dJ := hJ
  have step : ∀ (P ys : List Nat) (f : Nat → Nat) (G1 : GH) (hd0 : Option Nat) (x r' : Nat), x ∈ ns → cpn w G G1 a 25 f P ys → hch G1 hd0 ys → hpv G1 none ys → cf (fun _ => False) G G1 →
      (∀ G2 q hd1, cpn w G G2 a 25 (fun z => if z = q then x else f z) (P ++ [x]) (ys ++ [q]) → hch G2 hd1 (ys ++ [q]) → hpv G2 none (ys ++ [q]) → cf (fun _ => False) G G2 → wk_V w mJ7_treeifyBin (dJ, bJ, PJ, (fun _ _ _ => False), cJ, sJ) 78 [(0, vR (some a)), (1, vR (some t)), (4, vI (nI i)), (5, vR (some x)), (6, vR hd1), (8, vR (some q))] [] G2 r') →
      wk_V w mJ7_treeifyBin (dJ, bJ, PJ, (fun _ _ _ => False), cJ, sJ) 43 [(0, vR (some a)), (1, vR (some t)), (4, vI (nI i)), (5, vR (some x)), (6, vR hd0), (7, vR (lst none ys))] [] G1 (r' + 1) := by
    intro P ys f G1 hd0 x r' xn h1 h2 hv h3 kont
    have kx := hk x xn
    have kx0 : hp_kd G x ≠ 0 := by omega
    have kx1 : hp_kd G1 x = hp_kd G x := h3.kd kx0
    refine blJ7_treeifyBin_43 (by rw [h3.kd (by rw [ka]; decide)]; exact ka) (J7_replacementTreeNode_C (d := 4) (a := a) (nx := none) (by rw [kx1]; exact kx) (Nat.le_refl 4)) (by show 4 + 1 ≤ dJ; omega) (by show 1 ≤ r' + 1; omega) ?_ (fun _ _ _ q => absurd q id)
    rintro v G2 ⟨q, rfl, qA, hq⟩
    obtain ⟨q0, f1, f2, f3, f4, f5, f6, f7, f8, f9⟩ := id hq
    have q00 : hp_kd G q = 0 := h3.fresh q0
    have qy : ∀ y ∈ ys, y ≠ q := fun y hy e => by
      have := (h1.2.2 y hy).2.1
      rw [e, q0] at this
      cases this
    rw [h3.i kx0 id] at f4
    rw [h3.r kx0 id] at f5 f6
    have c2 : cf (fun _ => False) G G2 := h3.tr f1
    have d2 : ∀ y ∈ q :: ys, hp_kd G2 y = 25 ∧ hp_A w y ∧ ow G2 y a := fun y hy => by
      rcases List.mem_cons.1 hy with u | u
      · rw [u]; exact ⟨f2, qA, f3⟩
      · obtain ⟨a1, a2, a3, a4, -⟩ := h1.2.2 y u
        obtain ⟨g1, g2, g3, g4⟩ := f9 y (qy y u)
        exact ⟨g1.trans a2, a3, a4.cg g4⟩
    have s2 : ∀ y ∈ ys, hp_i G2 y 0 = hp_i G1 y 0 ∧ hp_r G2 y 1 = hp_r G1 y 1 ∧ hp_r G2 y 2 = hp_r G1 y 2 := fun y hy => by
      obtain ⟨g1, g2, g3, g4⟩ := f9 y (qy y hy)
      exact ⟨by rw [g2], by rw [g3], by rw [g3]⟩
    have r2 : ∀ y ∈ ys, hp_r G2 y = hp_r G1 y := fun y hy => (f9 y (qy y hy)).2.2.1
    have er : r' + 1 - 1 = r' := by omega
    refine blJ7_treeifyBin_50 (fun z hz => ?_) (fun hz => ?_)
    · have zy := lst_in hz
      have zq := qy z zy
      obtain ⟨a1, a2, a3, a4, -⟩ := h1.2.2 z zy
      have kz2 : hp_kd G2 z = 25 := ((f9 z zq).1).trans a2
      rw [hz]
      have rk : ∀ y k, hp_r (hp_sR (hp_sR G2 q 7 (some z)) z 3 (some q)) y k = if y = z ∧ k = 3 then some q else if y = q ∧ k = 7 then some z else hp_r G2 y k := fun y k => by
        rw [hp_r_sR, hp_r_sR]
        by_cases e1 : y = z
        · have e2 : y ≠ q := fun e => zq (e1.symm.trans e)
          rw [if_pos e1, if_neg e2]
          by_cases e3 : k = 3
          · rw [if_pos e3, if_pos ⟨e1, e3⟩]
          · rw [if_neg e3, if_neg (fun u => e3 u.2), if_neg (fun u => e2 u.1)]
        · rw [if_neg e1, if_neg (show ¬ (y = z ∧ k = 3) from fun u => e1 u.1)]
          by_cases e2 : y = q
          · rw [if_pos e2]
            by_cases e3 : k = 7
            · rw [if_pos e3, if_pos ⟨e2, e3⟩]
            · rw [if_neg e3, if_neg (fun u => e3 u.2)]
          · rw [if_neg e2, if_neg (fun u => e2 u.1)]
      obtain ⟨w1, w2⟩ := app_list (G := G1) (G' := hp_sR (hp_sR G2 q 7 (some z)) z 3 (some q)) (q := q) h2 hv h1.2.1 (fun y hy => by
          rw [rk, hz]
          by_cases e : y = z
          · rw [if_pos ⟨e, rfl⟩, if_pos (by rw [e])]
          · rw [if_neg (fun u => e u.1), if_neg (fun u => qy y hy u.1), if_neg (fun u => e (Option.some.inj u).symm), r2 y hy]) (fun y hy => by
          rw [rk, if_neg (fun u => absurd u.2 (by decide)), if_neg (fun u => qy y hy u.1), r2 y hy]) (by rw [rk, if_neg (fun u => zq u.1.symm), if_neg (fun u => absurd u.2 (by decide))]; exact f7) (by rw [rk, if_neg (fun u => zq u.1.symm), if_pos ⟨rfl, rfl⟩, hz])
      rw [if_neg (fun e => by rw [e] at zy; cases zy)] at w1
      refine blJ7_treeifyBin_64 rfl f2 qA rfl kz2 a3 ?_
      rw [er]
      refine kont _ q hd0 (h1.step q0 q00 (fun y hy => d2 y hy) (fun y hy => ?_) ⟨f4, ?_, ?_⟩ (by decide)) w1 w2 ((c2.sR (Or.inr q00)).sR (Or.inr a1))
      · obtain ⟨g1, g2, g3⟩ := s2 y hy
        exact ⟨g1, by rw [rk, if_neg (fun u => absurd u.2 (by decide)), if_neg (fun u => absurd u.2 (by decide))]; exact g2, by rw [rk, if_neg (fun u => absurd u.2 (by decide)), if_neg (fun u => absurd u.2 (by decide))]; exact g3⟩
      · rw [rk, if_neg (fun u => absurd u.2 (by decide)), if_neg (fun u => absurd u.2 (by decide))]; exact f5
      · rw [rk, if_neg (fun u => absurd u.2 (by decide)), if_neg (fun u => absurd u.2 (by decide))]; exact f6
    · have ey := lst_nil hz
      subst ey
      refine blJ7_treeifyBin_57 ?_
      rw [er]
      exact kont G2 q (some q) (h1.step q0 q00 d2 s2 ⟨f4, f5, f6⟩ (by decide)) ⟨rfl, f7⟩ ⟨f8 7 (by decide), trivial⟩ c2
  intro rest
  induction rest with
  | nil =>
    intro P ys f G1 hd0 x e1 h1 h2 hv h3 h4
    have xn : x ∈ ns := by rw [e1]; exact List.mem_append_right _ List.mem_cons_self
    have kx := hk x xn
    refine step P ys f G1 hd0 x r xn h1 h2 hv h3 (fun G2 q hd1 s1 s2 s3 s4 => ?_)
    have e : hp_r G x 3 = none := h4
    have er : hp_r G2 x 3 = none := by rw [s4.r (by omega) id]; exact e
    refine blJ7_treeifyBin_78 rfl (by rw [s4.kd (by omega)]; exact kx) (fun o u => by rw [er] at u; cases u) (fun _ => ?_)
    cases hd1 with
    | none =>
      cases ys with
      | nil => cases s2.1
      | cons y ys => cases s2.1
    | some h0 => exact kt G2 _ _ h0 (by rw [e1]; exact s1) s2 s3 s4
  | cons y rest ih =>
    intro P ys f G1 hd0 x e1 h1 h2 hv h3 h4
    have xn : x ∈ ns := by rw [e1]; exact List.mem_append_right _ List.mem_cons_self
    have kx := hk x xn
    refine step P ys f G1 hd0 x (r + (y :: rest).length) xn h1 h2 hv h3 (fun G2 q hd1 s1 s2 s3 s4 => ?_)
    have e : hp_r G x 3 = some y := h4.1
    have er : hp_r G2 x 3 = some y := by rw [s4.r (by omega) id]; exact e
    refine blJ7_treeifyBin_78 rfl (by rw [s4.kd (by omega)]; exact kx) (fun _ _ => ?_) (fun u => by rw [er] at u; cases u)
    rw [er]
    have := ih (P ++ [x]) (ys ++ [q]) _ G2 hd1 y (by rw [e1, List.append_assoc]; rfl) s1 s2 s3 s4 h4.2
    rw [lst_app] at this
    exact this
end
