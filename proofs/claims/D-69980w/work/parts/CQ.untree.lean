/-! untreeify: plain nodes for a tree's -/
set_option maxRecDepth 100000
/-- ys are new nodes of the kind c in place of ns, f tells which for which -/
def cpn (w : WD) (G G' : GH) (a k : Nat) (f : Nat → Nat) (ns ys : List Nat) : Prop := ys.map f = ns ∧ ys.Nodup ∧ ∀ y ∈ ys, hp_kd G y = 0 ∧ hp_kd G' y = k ∧ hp_A w y ∧ ow G' y a ∧ hp_i G' y 0 = hp_i G (f y) 0 ∧ hp_r G' y 1 = hp_r G (f y) 1 ∧ hp_r G' y 2 = hp_r G (f y) 2
section
variable {w : WD} {d : Nat} {G : GH} {a : Nat}
theorem cpn.step {G1 G2 : GH} {k q x : Nat} {f : Nat → Nat} {ns ys : List Nat} (h : cpn w G G1 a k f ns ys) (hq : hp_kd G1 q = 0) (hq0 : hp_kd G q = 0) (hd : ∀ y ∈ q :: ys, hp_kd G2 y = k ∧ hp_A w y ∧ ow G2 y a) (hs : ∀ y ∈ ys, hp_i G2 y 0 = hp_i G1 y 0 ∧ hp_r G2 y 1 = hp_r G1 y 1 ∧ hp_r G2 y 2 = hp_r G1 y 2) (hx : hp_i G2 q 0 = hp_i G x 0 ∧ hp_r G2 q 1 = hp_r G x 1 ∧ hp_r G2 q 2 = hp_r G x 2) (hk : k ≠ 0) :
    cpn w G G2 a k (fun z => if z = q then x else f z) (ns ++ [x]) (ys ++ [q]) := by
  obtain ⟨h1, h2, h3⟩ := h
  have qy : ∀ y ∈ ys, y ≠ q := fun y hy e => by
    have := (h3 y hy).2.1
    rw [e, hq] at this
    exact hk this.symm
  refine ⟨?_, ?_, fun y hy => ?_⟩
  · rw [List.map_append, ← h1]
    congr 1
    · exact List.map_congr_left (fun y hy => by rw [if_neg (qy y hy)])
    · show [if q = q then x else f q] = [x]
      rw [if_pos rfl]
  · refine List.nodup_append.2 ⟨h2, List.nodup_cons.2 ⟨fun u => (by cases u), List.nodup_nil⟩, fun y hy z hz => ?_⟩
    rw [List.mem_singleton.1 hz]
    exact qy y hy
  · rcases List.mem_append.1 hy with u | u
    · obtain ⟨a1, a2, a3, a4, a5, a6, a7⟩ := h3 y u
      obtain ⟨b1, b2, b3⟩ := hd y (List.mem_cons_of_mem _ u)
      obtain ⟨c1, c2, c3⟩ := hs y u
      dsimp only
      rw [if_neg (qy y u)]
      exact ⟨a1, b1, b2, b3, c1.trans a5, c2.trans a6, c3.trans a7⟩
    · have e := List.mem_singleton.1 u
      obtain ⟨b1, b2, b3⟩ := hd q List.mem_cons_self
      dsimp only
      rw [e, if_pos rfl]
      exact ⟨hq0, b1, b2, b3, hx⟩
theorem J26_untreeify_C {h0 : Nat} {ns xs : List Nat} (ka : hp_kd G a = 23) (e0 : ns = h0 :: xs) (hc : hch G (some h0) ns) (hk : ∀ x ∈ ns, 24 ≤ hp_kd G x ∧ hp_kd G x ≤ 25) (hd : 3 ≤ d) :
    wk_C w mJ26_untreeify d ns.length [vR (some h0), vR (some a)] G (fun v G' => ∃ ys f p, v = some (vR p) ∧ cpn w G G' a 24 f ns ys ∧ hch G' p ys ∧ cf (fun _ => False) G G') (fun _ _ _ => False) := by
  refine wk_C_of (by decide) rfl (Nat.le_of_ble_eq_true rfl) ?_
  refine blJ26_untreeify_0 ?_
  have main : ∀ (rest P ys : List Nat) (f : Nat → Nat) (G1 : GH) (hd0 p : Option Nat), ns = P ++ rest → cpn w G G1 a 24 f P ys → hch G1 hd0 ys → cf (fun _ => False) G G1 → hch G p rest →
      wk_V w mJ26_untreeify (d, ns.length, (fun v G' => ∃ ys f p, v = some (vR p) ∧ cpn w G G' a 24 f ns ys ∧ hch G' p ys ∧ cf (fun _ => False) G G'), (fun _ _ _ => False), hp_cs G, hp_ss G) 7 [(1, vR (some a)), (2, vR hd0), (3, vR (lst none ys)), (4, vR p)] [] G1 rest.length := by
    intro rest
    induction rest with
    | nil =>
      intro P ys f G1 hd0 p e1 h1 h2 h3 h4
      have ep : p = none := h4
      subst ep
      refine blJ26_untreeify_7 (fun _ => blJ26_untreeify_50 ⟨ys, f, hd0, rfl, ?_, h2, h3⟩) (fun o e => by cases e)
      rw [e1, List.append_nil]
      exact h1
    | cons x rest ih =>
      intro P ys f G1 hd0 p e1 h1 h2 h3 h4
      have ep : p = some x := h4.1
      subst ep
      have xn : x ∈ ns := by rw [e1]; exact List.mem_append_right _ List.mem_cons_self
      have kx := hk x xn
      have kx0 : hp_kd G x ≠ 0 := by omega
      have kx1 : hp_kd G1 x = hp_kd G x := h3.kd kx0
      refine blJ26_untreeify_7 (fun e => by cases e) (fun _ _ => ?_)
      refine blJ26_untreeify_12 rfl (by rw [h3.kd (by rw [ka]; decide)]; exact ka) (J7_replacementNode_C (d := 2) (a := a) (nx := none) (by rw [kx1]; exact kx) (Nat.le_refl 2)) hd (Nat.succ_le_succ (Nat.zero_le _)) ?_ (fun _ _ _ q => absurd q id)
      rintro v G2 ⟨q, rfl, qA, hq⟩
      obtain ⟨q0, f1, f2, f3, f4, f5, f6, f7, f8, f9⟩ := id hq
      have q00 : hp_kd G q = 0 := h3.fresh q0
      have qy : ∀ y ∈ ys, y ≠ q := fun y hy e => by
        have := (h1.2.2 y hy).2.1
        rw [e, q0] at this
        cases this
      rw [h3.i kx0 id] at f4
      rw [h3.r kx0 id] at f5 f6
      have c2 : cf (fun _ => False) G G2 := h3.tr f1
      have e1' : ns = (P ++ [x]) ++ rest := by rw [e1, List.append_assoc]; rfl
      have hl : lst none (ys ++ [q]) = some q := by rw [lst_app]; rfl
      have d2 : ∀ y ∈ q :: ys, hp_kd G2 y = 24 ∧ hp_A w y ∧ ow G2 y a := fun y hy => by
        rcases List.mem_cons.1 hy with u | u
        · rw [u]; exact ⟨f2, qA, f3⟩
        · obtain ⟨a1, a2, a3, a4, -⟩ := h1.2.2 y u
          obtain ⟨g1, g2, g3, g4⟩ := f9 y (qy y u)
          exact ⟨g1.trans a2, a3, a4.cg g4⟩
      have s2 : ∀ y ∈ ys, hp_i G2 y 0 = hp_i G1 y 0 ∧ hp_r G2 y 1 = hp_r G1 y 1 ∧ hp_r G2 y 2 = hp_r G1 y 2 := fun y hy => by
        obtain ⟨g1, g2, g3, g4⟩ := f9 y (qy y hy)
        exact ⟨by rw [g2], by rw [g3], by rw [g3]⟩
      have next : ∀ G3, hp_kd G3 x = hp_kd G x → hp_r G3 x 3 = hp_r G x 3 → cpn w G G3 a 24 (fun z => if z = q then x else f z) (P ++ [x]) (ys ++ [q]) → ∀ hd1, hch G3 hd1 (ys ++ [q]) → cf (fun _ => False) G G3 →
          wk_V w mJ26_untreeify (d, ns.length, (fun v G' => ∃ ys f p, v = some (vR p) ∧ cpn w G G' a 24 f ns ys ∧ hch G' p ys ∧ cf (fun _ => False) G G'), (fun _ _ _ => False), hp_cs G, hp_ss G) 37 [(1, vR (some a)), (2, vR hd1), (4, vR (some x)), (5, vR (some q))] [] G3 rest.length := by
        intro G3 k3 r3 n1 hd1 n2 n3
        refine blJ26_untreeify_37 rfl (by rw [k3]; exact kx) ?_
        rw [r3]
        have := ih (P ++ [x]) (ys ++ [q]) _ G3 hd1 (hp_r G x 3) e1' n1 n2 n3 h4.2
        rw [hl] at this
        exact this
      have x2 : x ≠ q := fun e => by rw [e, q00] at kx0; exact kx0 rfl
      have rx2 : hp_r G2 x 3 = hp_r G x 3 := by rw [(f9 x x2).2.2.1, h3.r kx0 id]
      refine blJ26_untreeify_19 (fun z hz => ?_) (fun hz => ?_)
      · have zy : z ∈ ys := (lst_mem _ _ z hz).elim (fun e => by cases e) id
        have zq := qy z zy
        obtain ⟨a1, a2, a3, a4, -⟩ := h1.2.2 z zy
        have kz2 : hp_kd G2 z = 24 := ((f9 z zq).1).trans a2
        have xz : x ≠ z := fun e => by rw [← e] at a1; exact kx0 a1
        rw [hz]
        refine blJ26_untreeify_31 rfl (by rw [kz2]; decide) a3 (next (hp_sR G2 z 3 (some q)) (by rw [hp_kd_sR, c2.kd kx0]) (by rw [hp_r_sR, if_neg xz]; exact rx2) (h1.step q0 q00 (fun y hy => d2 y hy) (fun y hy => ?_) ⟨f4, ?_, ?_⟩ (by decide)) hd0 ?_ (c2.sR (Or.inr a1)))
        · obtain ⟨g1, g2, g3⟩ := s2 y hy
          refine ⟨g1, ?_, ?_⟩
          · rw [hp_r_sR]; split
            · first | exact g2 | (rw [if_neg (by decide)]; exact g2)
            · exact g2
          · rw [hp_r_sR]; split
            · first | exact g3 | (rw [if_neg (by decide)]; exact g3)
            · exact g3
        · rw [hp_r_sR, if_neg zq.symm]; exact f5
        · rw [hp_r_sR, if_neg zq.symm]; exact f6
        · rw [← hseg_ch] at h2 ⊢
          refine (hseg_app _ _ _ _).2 ⟨some q, hseg_last ys hd0 none h2 z (some q) hz h1.2.1 (fun y hy hne => ?_) (by rw [hp_r_sR, if_pos rfl, if_pos rfl]), rfl, ?_⟩
          · rw [hp_r_sR, if_neg hne, (f9 y (qy y hy)).2.2.1]
          · show hp_r (hp_sR G2 z 3 (some q)) q 3 = none
            rw [hp_r_sR, if_neg zq.symm]
            exact f7
      · have ey : ys = [] := by
          cases ys with
          | nil => rfl
          | cons y ys' =>
            exfalso
            have key : ∀ (xs : List Nat) (y : Nat), lst (some y) xs ≠ none := by
              intro xs
              induction xs with
              | nil => intro y h; cases h
              | cons v vs ih => intro y h; exact ih v h
            exact key ys' y hz
        subst ey
        exact blJ26_untreeify_25 (next G2 (by rw [c2.kd kx0]) rx2 (h1.step q0 q00 d2 s2 ⟨f4, f5, f6⟩ (by decide)) (some q) ⟨rfl, f7⟩ c2)
  exact main ns [] [] (fun z => z) G none (some h0) rfl ⟨rfl, List.nodup_nil, fun y hy => by cases hy⟩ rfl cf.rf hc
end
