/-! treeify -/
set_option maxRecDepth 100000
/-- only links, tree fields of the cells B, and the table's place i, have changed -/
def tk (B : List Nat) (t i : Nat) (G G' : GH) : Prop := cf (fun a => a ∈ B ∨ a = t) G G' ∧ (∀ x k, x ≠ t → k < 3 → hp_r G' x k = hp_r G x k) ∧ (∀ j, j ≠ i → hp_r G' t j = hp_r G t j) ∧ (∀ x k, k ≠ 8 → hp_i G' x k = hp_i G x k) ∧ ∀ x, hp_l G' x = hp_l G x
def tf_P (G : GH) (t i : Nat) (B : List Nat) (Lf : Nat → List Nat) (v : Option WV) (G' : GH) : Prop := v = none ∧ ∃ B', (∀ x, x ∈ B' ↔ x ∈ B) ∧ B'.Nodup ∧ hch G' (hp_r G' t i) B' ∧ tbn G' Lf B' ∧ tk B t i G G'
section
variable {w : WD} {d : Nat} {G G' : GH} {B N : List Nat} {t i r k : Nat} {ps lo hi : Nat → Nat} {Lf : Nat → List Nat} {Vf : Nat → Nat}
theorem tk.id0 : tk B t i G G := ⟨cf.rf, fun _ _ _ _ => rfl, fun _ _ => rfl, fun _ _ _ => rfl, fun _ => rfl⟩
theorem tk.tr {G1 G2 : GH} (h : tk B t i G G1) (h2 : tk B t i G1 G2) : tk B t i G G2 := ⟨h.1.tr h2.1, fun x k hx h3 => (h2.2.1 x k hx h3).trans (h.2.1 x k hx h3), fun j hj => (h2.2.2.1 j hj).trans (h.2.2.1 j hj), fun x k hk => (h2.2.2.2.1 x k hk).trans (h.2.2.2.1 x k hk), fun x => (h2.2.2.2.2 x).trans (h.2.2.2.2 x)⟩
theorem lf.toT (h : lf B t i G G') : tk B t i G G' := ⟨h.1, fun x k hx h3 => h.2.1 x k hx (by omega) (by omega), h.2.2.1, fun x k _ => h.2.2.2.1 x k, h.2.2.2.2⟩
theorem rk.toT (h : rk B G G') (ht : t ∉ B) (kt : hp_kd G t ≠ 0) : tk B t i G G' := ⟨h.1.mono (fun _ _ u => Or.inl u), fun x k _ h3 => h.2.1 x k (Or.inl (by omega)), fun j _ => by rw [h.1.r kt ht], h.2.2.1, h.2.2.2⟩
theorem rk.mono {N2 : List Nat} (h : rk N G G') (hs : ∀ a, a ∈ N → a ∈ N2) : rk N2 G G' := ⟨h.1.mono (fun a _ u => hs a u), h.2⟩
theorem tr.fr4 (h : tr G N r ps lo hi) (h0 : ∀ x ∈ N, hp_kd G' x = hp_kd G x ∧ ∀ k, k = 4 ∨ k = 5 ∨ k = 6 → hp_r G' x k = hp_r G x k) : tr G' N r ps lo hi := by
  obtain ⟨⟨h1, h2, h3⟩, h4⟩ := h
  refine ⟨⟨h1, by rw [(h0 r h1).2 4 (Or.inl rfl)]; exact h2, fun a ha e => h3 a ha (by rw [← (h0 a ha).2 4 (Or.inl rfl)]; exact e)⟩, fun a ha => ?_⟩
  obtain ⟨a1, a2, a3, a4, a5⟩ := h4 a ha
  refine ⟨by rw [(h0 a ha).1]; exact a1, a2, fun b hb => ?_, fun b hb => ?_, fun b hb => ?_⟩
  · rw [(h0 a ha).2 5 (Or.inr (Or.inl rfl))] at hb
    obtain ⟨q1, q2, q3⟩ := a3 b hb
    exact ⟨q1, by rw [(h0 b q1).2 4 (Or.inl rfl)]; exact q2, q3⟩
  · rw [(h0 a ha).2 6 (Or.inr (Or.inr rfl))] at hb
    obtain ⟨q1, q2, q3⟩ := a4 b hb
    exact ⟨q1, by rw [(h0 b q1).2 4 (Or.inl rfl)]; exact q2, q3⟩
  · rw [(h0 a ha).2 4 (Or.inl rfl)] at hb
    obtain ⟨q1, q2⟩ := a5 b hb
    exact ⟨q1, by rw [(h0 b q1).2 5 (Or.inr (Or.inl rfl)), (h0 b q1).2 6 (Or.inr (Or.inr rfl))]; exact q2⟩
theorem hch.fr3 {xs : List Nat} {p : Option Nat} (h0 : ∀ x ∈ xs, hp_r G' x 3 = hp_r G x 3) (h : hch G p xs) : hch G' p xs := (hseg_ch xs p).1 (hseg.fr xs p none h0 ((hseg_ch xs p).2 h))
/-- Strings stand where cells of other kinds change -/
theorem st_cf {own : Nat → Prop} (h : cf own G G') (hk : ∀ a, own a → hp_kd G a ≠ 26 ∧ hp_kd G a ≠ 30) {a : Nat} {l : List Nat} (hs : st w G a l) : st w G' a l := (rx_of (z := (w, 0, 0, 0, fun _ => 0, 0)) h hk).2.2 a l hs
theorem hn.tk {a x v : Nat} {l : List Nat} (h : hn w G a x l v) (hf : tk B t i G G') (hx : x ≠ t) (hst : ∀ b m, st w G b m → st w G' b m) : hn w G' a x l v := by
  obtain ⟨h1, h2, h3, h4, ⟨key, h5, h6⟩, h7, h8, h9⟩ := h
  have kx : hp_kd G x ≠ 0 := by omega
  exact ⟨by rw [hf.1.kd kx]; exact h1, h2, h3.cg (hf.2.2.2.2 x), by rw [hf.2.2.2.1 x 0 (by decide)]; exact h4, ⟨key, by rw [hf.2.1 x 1 hx (by decide)]; exact h5, hst _ _ h6⟩, by rw [hf.2.1 x 2 hx (by decide)]; exact h7, hf.1.ne h8, by rw [hf.1.kd h8]; exact h9⟩
theorem J26_treeify_C {a h0 : Nat} {B1 : List Nat} (kt : hp_kd G t = 35) (tA : hp_A w t) (ln : hp_ln G t = 2 ^ k) (hk : k ≤ 16) (hN : ∀ x ∈ B, hn w G a x (Lf x) (Vf x) ∧ hp_kd G x = 25 ∧ hix k (hx (Lf x)) = i) (hB : B = h0 :: B1) (hc : hch G (hp_r G t i) B) (hv : hpv G none B) (nd : B.Nodup) (hinj : ∀ x ∈ B, ∀ y ∈ B, Lf x = Lf y → x = y) (hcmp : cmp_o w) (hd : 23 ≤ d) :
    wk_C w mJ26_treeify d 0 [vR (some h0), vR (some t)] G (tf_P G t i B Lf) (fun _ _ _ => False) := by
  refine wk_C_of (by decide) rfl (Nat.le_of_ble_eq_true rfl) ?_
  refine blJ26_treeify_0 ?_
  have tB : t ∉ B := fun u => by have := (hN t u).2.1; rw [kt] at this; cases this
  have kB : ∀ x ∈ B, hp_kd G x ≠ 0 := fun x hx => by rw [(hN x hx).2.1]; decide
  have AB : ∀ x ∈ B, hp_A w x := fun x hx => (hN x hx).1.2.1
  have gB : ∀ x ∈ B, gw (Lf x) := fun x hx => by
    obtain ⟨-, -, -, -, ⟨key, -, h6⟩, -⟩ := (hN x hx).1
    exact h6.gw
  have hst : ∀ {G1 : GH}, rk B G G1 → ∀ b m, st w G b m → st w G1 b m := fun h b m u => st_cf h.1 (fun x hx => by rw [(hN x hx).2.1]; exact ⟨by decide, by decide⟩) u
  have kk : ∀ {G1 : GH}, rk B G G1 → ∀ x ∈ B, hp_kd G1 x = 25 := fun h x hx => by rw [h.1.kd (kB x hx)]; exact (hN x hx).2.1
  have main : ∀ (rest P : List Nat) (G1 : GH) (root p3 : Option Nat), B = P ++ rest → rk B G G1 → hch G p3 rest → ((P = [] ∧ root = none) ∨ ∃ r1 ps lo hi, root = some r1 ∧ tr G1 P r1 ps lo hi ∧ tro Lf P ps) →
      wk_V w mJ26_treeify (d, 0, tf_P G t i B Lf, (fun _ _ _ => False), hp_cs G, hp_ss G) 4 [(1, vR (some t)), (2, vR root), (3, vR p3)] [] G1 0 := by
    intro rest
    induction rest with
    | nil =>
      intro P G1 root p3 e1 hrk hch3 hroot
      have e3 : p3 = none := hch3
      subst e3
      have eP : P = B := by rw [e1, List.append_nil]
      rcases hroot with ⟨u, -⟩ | ⟨r1, ps, lo, hi, rfl, hT, ho⟩
      · rw [eP, hB] at u; cases u
      rw [eP] at hT ho
      refine blJ26_treeify_4 (fun _ => ?_) (fun o e => by cases e)
      have rB := hT.1.1
      have e8 : hp_i G1 r1 0 = hx (Lf r1) := by rw [hrk.2.2.1 r1 0 (by decide)]; exact (hN r1 rB).1.2.2.2.1
      have et : hp_r G1 t = hp_r G t := hrk.1.r (by rw [kt]; decide) tB
      refine blJ26_treeify_215 (J26_moveRootToFront_C (d := 0) (i := i) (k := k) (B := B) (by rw [hrk.1.kd (by rw [kt]; decide)]; exact kt) tA (by rw [hrk.1.ln (by rw [kt]; decide)]; exact ln) hk (by rw [e8]; exact (hN r1 rB).2.2.symm) (by rw [et]; exact hc.fr3 (fun x _ => hrk.2.1 x 3 (Or.inl (by decide)))) (hpv.fr7 _ _ (fun x _ => hrk.2.1 x 7 (Or.inr (by decide))) hv) rB (fun x hx => ⟨kk hrk x hx, AB x hx⟩) nd) (by show 0 + 1 ≤ d; omega) (Nat.zero_le _) ?_ (fun _ _ _ q => absurd q id)
      rintro v G2 ⟨rfl, xs, m1, m2, m3, m4, m5⟩
      have hT2 : tr G2 B r1 ps lo hi := hT.fr4 (fun x hx => ⟨m5.1.kd (by rw [kk hrk x hx]; decide), fun k hk => m5.2.1 x k (fun e => tB (by rw [← e]; exact hx)) (by omega) (by omega)⟩)
      exact blJ26_treeify_220 ⟨rfl, r1 :: xs, m1, m2, m3, ⟨r1, xs, ps, lo, hi, rfl, m4, hT2.mem (fun x => (m1 x).symm), ho.mem (fun x => (m1 x).symm)⟩, (rk.toT hrk tB (by rw [kt]; decide)).tr (lf.toT m5)⟩
    | cons x rest ih =>
      intro P G1 root p3 e1 hrk hch3 hroot
      have e3 : p3 = some x := hch3.1
      subst e3
      have xB : x ∈ B := by rw [e1]; exact List.mem_append_right _ List.mem_cons_self
      have PB : ∀ y ∈ P, y ∈ B := fun y hy => by rw [e1]; exact List.mem_append_left _ hy
      have nd1 := nd
      rw [e1] at nd1
      have xP : x ∉ P := fun u => (List.nodup_append.1 nd1).2.2 x u x List.mem_cons_self rfl
      have e1' : B = (P ++ [x]) ++ rest := by rw [e1, List.append_assoc]; rfl
      have hnx := hch3.2
      have enx : hp_r G1 x 3 = hp_r G x 3 := hrk.2.1 x 3 (Or.inl (by decide))
      refine blJ26_treeify_4 (fun e => by cases e) (fun _ _ => ?_)
      refine blJ26_treeify_8 rfl (kk hrk x xB) (fun b hb => ?_) (AB x xB) ?_
      · rw [enx] at hb
        cases rest with
        | nil => have u : hp_r G x 3 = none := hnx; rw [u] at hb; cases hb
        | cons y ys =>
          have u : hp_r G x 3 = some y := hnx.1
          rw [u] at hb
          rw [← Option.some.inj hb, kk hrk y (by rw [e1]; exact List.mem_append_right _ (List.mem_cons_of_mem _ List.mem_cons_self))]
          exact ⟨by decide, by decide, Or.inl rfl⟩
      rw [enx]
      have hrk2 : rk B G (hp_sR (hp_sR G1 x 6 none) x 5 none) := (hrk.sR xB (by decide)).sR xB (by decide)
      have x5 : hp_r (hp_sR (hp_sR G1 x 6 none) x 5 none) x 5 = none := by rw [hp_r_sR, if_pos rfl, if_pos rfl]
      have x6 : hp_r (hp_sR (hp_sR G1 x 6 none) x 5 none) x 6 = none := by rw [hp_r_sR, if_pos rfl, if_neg (by decide), hp_r_sR, if_pos rfl, if_pos rfl]
      have hP2 : ∀ y ∈ P, ∀ k, hp_r (hp_sR (hp_sR G1 x 6 none) x 5 none) y k = hp_r G1 y k := fun y hy k => by
        have ne : y ≠ x := fun e => xP (by rw [← e]; exact hy)
        rw [hp_r_sR, if_neg ne, hp_r_sR, if_neg ne]
      have hkd2 : ∀ y, hp_kd (hp_sR (hp_sR G1 x 6 none) x 5 none) y = hp_kd G1 y := fun _ => rfl
      generalize hp_sR (hp_sR G1 x 6 none) x 5 none = G2 at hrk2 x5 x6 hP2 hkd2 ⊢
      have kx2 := kk hrk2 x xB
      rcases hroot with ⟨eP, rfl⟩ | ⟨r1, ps, lo, hi, rfl, hT, ho⟩
      · refine blJ26_treeify_27 (fun o e => by cases e) (fun _ => ?_)
        refine blJ26_treeify_31 rfl kx2 (AB x xB) (blJ26_treeify_41 (blJ26_treeify_209 ?_))
        have hone := tr_one (G := hp_sI (hp_sR G2 x 4 none) x 8 0) (x := x) (Lf := Lf) kx2 (by rw [hp_r_sI, hp_r_sR, if_pos rfl, if_pos rfl]) (by rw [hp_r_sI, hp_r_sR, if_pos rfl, if_neg (by decide)]; exact x5) (by rw [hp_r_sI, hp_r_sR, if_pos rfl, if_neg (by decide)]; exact x6)
        refine ih (P ++ [x]) _ _ _ e1' ((hrk2.sR xB (by decide)).sI xB) hnx (Or.inr ⟨x, _, _, _, rfl, by rw [eP]; exact hone⟩)
      · refine blJ26_treeify_27 (fun _ _ => ?_) (fun e => by cases e)
        have hT2 : tr G2 P r1 ps lo hi := hT.fr4 (fun y hy => ⟨hkd2 y, fun k _ => hP2 y hy k⟩)
        obtain ⟨n1, n2, n3, n4, ⟨key, n5, n6⟩, n7⟩ := (hN x xB).1
        have n6' := hst hrk2 _ _ n6
        have gx := gB x xB
        have gP : ∀ y ∈ P, gw (Lf y) := fun y hy => gB y (PB y hy)
        refine blJ26_treeify_46 rfl kx2 ?_
        rw [hrk2.2.1 x 1 (Or.inl (by decide)), n5, hrk2.2.2.1 x 0 (by decide), n4]
        -- where a leaf was hung up
        have hung : ∀ G3 ps' lo' hi', rk B G G3 → tr G3 (x :: P) r1 ps' lo' hi' → tro Lf (x :: P) ps' → wk_V w mJ26_treeify (d, 0, tf_P G t i B Lf, (fun _ _ _ => False), hp_cs G, hp_ss G) 197 [(1, vR (some t)), (2, vR (some r1)), (3, vR (some x)), (4, vR (hp_r G x 3))] [] G3 0 := by
          intro G3 ps' lo' hi' hrk3 hT3 ho3
          have xPB : ∀ y, y ∈ x :: P → y ∈ B := fun y hy => (List.mem_cons.1 hy).elim (fun e => by rw [e]; exact xB) (PB y)
          refine blJ26_treeify_197 (J26_balanceInsertion_C (d := 1) hT3 (fun y hy => AB y (xPB y hy)) List.mem_cons_self (Nat.le_refl 1)) (by show 1 + 1 ≤ d; omega) (Nat.zero_le _) ?_ (fun _ _ _ q => absurd q id)
          rintro v G4 ⟨r4, lo4, hi4, rfl, hT4, hrk4⟩
          refine blJ26_treeify_202 (blJ26_treeify_209 ?_)
          have hm : ∀ y, y ∈ x :: P ↔ y ∈ P ++ [x] := fun y => by
            simp only [List.mem_cons, List.mem_append, List.not_mem_nil, or_false]
            exact Or.comm
          exact ih (P ++ [x]) _ _ _ e1' (hrk3.tr (hrk4.mono xPB)) hnx (Or.inr ⟨r4, ps', lo4, hi4, rfl, hT4.mem hm, ho3.mem hm⟩)
        have inner : ∀ f p (kc : Option Nat), p ∈ P → hi p - lo p ≤ f → wi Lf P ps lo hi (Lf x) p → (kc = none ∨ kc = some (hp_mi w "java/lang/String")) → wk_V w mJ26_treeify (d, 0, tf_P G t i B Lf, (fun _ _ _ => False), hp_cs G, hp_ss G) 64 [(1, vR (some t)), (2, vR (some r1)), (3, vR (some x)), (4, vR (hp_r G x 3)), (5, vR (some key)), (6, vI (hx (Lf x))), (7, vR kc), (8, vR (some p))] [] G2 0 := by
          intro f
          induction f with
          | zero =>
            intro p kc hp hf
            have := (hT2.2 p hp).2.1
            omega
          | succ f ihf =>
            intro p kc hp hf hwi hkc
            have tp := hT2.2 p hp
            have hwp := tp.2.1
            have pB := PB p hp
            obtain ⟨o1, o2, o3, o4, ⟨kx, o5, o6⟩, o7⟩ := (hN p pB).1
            have o4' : hp_i G2 p 0 = hx (Lf p) := by rw [hrk2.2.2.1 p 0 (by decide)]; exact o4
            have o5' : hp_r G2 p 1 = some kx := by rw [hrk2.2.1 p 1 (Or.inl (by decide))]; exact o5
            have o6' := hst hrk2 _ _ o6
            have gp := gB p pB
            have npx : p ≠ x := fun e => xP (by rw [← e]; exact hp)
            have hne : ¬ Lf x = Lf p := fun e => npx (hinj p pB x xB e.symm)
            -- the step from p
            have step : ∀ (x9 : Int32) (kc : Option Nat), (kc = none ∨ kc = some (hp_mi w "java/lang/String")) → (0 < x9 → kl (Lf p) (Lf x)) → (¬ 0 < x9 → kl (Lf x) (Lf p)) → wk_V w mJ26_treeify (d, 0, tf_P G t i B Lf, (fun _ _ _ => False), hp_cs G, hp_ss G) 143 [(1, vR (some t)), (2, vR (some r1)), (3, vR (some x)), (4, vR (hp_r G x 3)), (5, vR (some key)), (6, vI (hx (Lf x))), (7, vR kc), (8, vR (some p)), (9, vI x9)] [] G2 0 := by
              intro x9 kc hkc hg1 hg2
              have cells : ∀ c, c = 5 ∨ c = 6 → hp_r G2 p c = none → (∀ y ∈ P, ∀ k, k = 4 ∨ k = 5 ∨ k = 6 → hp_r (hp_sR (hp_sR G2 x 4 (some p)) p c (some x)) y k = if y = p ∧ k = c then some x else hp_r G2 y k) ∧ hp_r (hp_sR (hp_sR G2 x 4 (some p)) p c (some x)) x 4 = some p ∧ hp_r (hp_sR (hp_sR G2 x 4 (some p)) p c (some x)) x 5 = none ∧ hp_r (hp_sR (hp_sR G2 x 4 (some p)) p c (some x)) x 6 = none := by
                intro c hc0 _
                refine ⟨fun y hy k _ => ?_, ?_, ?_, ?_⟩
                · have ne : y ≠ x := fun e => xP (by rw [← e]; exact hy)
                  rw [hp_r_sR, hp_r_sR, if_neg ne]
                  by_cases e : y = p
                  · rw [if_pos e]
                    by_cases e2 : k = c
                    · rw [if_pos e2, if_pos ⟨e, e2⟩]
                    · rw [if_neg e2, if_neg (fun u => e2 u.2)]
                  · rw [if_neg e, if_neg (fun u => e u.1)]
                · rw [hp_r_sR, if_neg npx.symm, hp_r_sR, if_pos rfl, if_pos rfl]
                · rw [hp_r_sR, if_neg npx.symm, hp_r_sR, if_pos rfl, if_neg (by decide)]; exact x5
                · rw [hp_r_sR, if_neg npx.symm, hp_r_sR, if_pos rfl, if_neg (by decide)]; exact x6
              refine blJ26_treeify_143 (fun q => ?_) (fun q => ?_)
              · refine blJ26_treeify_160 rfl tp.1 (blJ26_treeify_165 (fun b hb => ?_) (fun hb => ?_))
                · obtain ⟨b1, b2, b3, b4⟩ := tp.2.2.2.1 b hb
                  rw [hb]
                  exact blJ26_treeify_206 (ihf b kc b1 (by omega) (hwi.right ho hp gP gx (hg1 q) b3 b4) hkc)
                · obtain ⟨q1, q2, q3, q4⟩ := cells 6 (Or.inr rfl) hb
                  obtain ⟨ps', lo', hi', hT3, ho3⟩ := hT2.leaf6 (G' := hp_sR (hp_sR G2 x 4 (some p)) p 6 (some x)) ho hp xP hb hwi (hg1 q) gP gx kx2 (fun _ _ => rfl) q1 q2 q3 q4
                  exact blJ26_treeify_171 rfl kx2 (AB x xB) (fun _ => blJ26_treeify_191 rfl tp.1 (AB p pB) (hung _ _ _ _ ((hrk2.sR xB (by decide)).sR pB (by decide)) hT3 ho3)) (fun u => absurd q u)
              · refine blJ26_treeify_152 rfl tp.1 (blJ26_treeify_165 (fun b hb => ?_) (fun hb => ?_))
                · obtain ⟨b1, b2, b3, b4⟩ := tp.2.2.1 b hb
                  rw [hb]
                  exact blJ26_treeify_206 (ihf b kc b1 (by omega) (hwi.left ho hp gP gx (hg2 q) b3 b4) hkc)
                · obtain ⟨q1, q2, q3, q4⟩ := cells 5 (Or.inl rfl) hb
                  obtain ⟨ps', lo', hi', hT3, ho3⟩ := hT2.leaf5 (G' := hp_sR (hp_sR G2 x 4 (some p)) p 5 (some x)) ho hp xP hb hwi (hg2 q) gP gx kx2 (fun _ _ => rfl) q1 q2 q3 q4
                  exact blJ26_treeify_171 rfl kx2 (AB x xB) (fun u => absurd u q) (fun _ => blJ26_treeify_182 rfl tp.1 (AB p pB) (hung _ _ _ _ ((hrk2.sR xB (by decide)).sR pB (by decide)) hT3 ho3))
            refine blJ26_treeify_64 rfl tp.1 (fun q => ?_) (fun q => ?_)
            · rw [o4'] at q ⊢
              refine blJ26_treeify_90 (fun q2 => ?_) (fun q2 => ?_)
              · have hh : hx (Lf x) = hx (Lf p) := Int32.le_antisymm q2 q
                rw [o5']
                have fin : wk_V w mJ26_treeify (d, 0, tf_P G t i B Lf, (fun _ _ _ => False), hp_cs G, hp_ss G) 119 [(1, vR (some t)), (2, vR (some r1)), (3, vR (some x)), (4, vR (hp_r G x 3)), (5, vR (some key)), (6, vI (hx (Lf x))), (7, vR (some (hp_mi w "java/lang/String"))), (8, vR (some p)), (11, vR (some kx))] [] G2 0 := by
                  refine blJ26_treeify_119 (J7_compareComparables_C (d := 21) n6'.1 o6'.1 hcmp (Nat.le_refl 21)) (by show 21 + 1 ≤ d; omega) (Nat.zero_le _) ?_ (fun _ _ _ q => absurd q id)
                  rintro v G5 ⟨rfl, rfl⟩
                  refine blJ26_treeify_128 (fun vn => ?_) (fun v0 => absurd (cmpI_0 gx gp v0) hne)
                  refine step _ _ (Or.inr rfl) (fun u => Or.inr ⟨hh.symm, ?_⟩) (fun u => Or.inr ⟨hh, ?_⟩)
                  · rw [cmpI_lt gp gx]
                    rw [Int32.lt_iff_toInt_lt, cmpI_Z _ _ gx gp] at u
                    have u' : 0 < cmpZ (Lf x) (Lf p) := u
                    have := cmpZ_anti (Lf x) (Lf p)
                    omega
                  · rw [Int32.lt_iff_toInt_lt]
                    rw [Int32.lt_iff_toInt_lt] at u
                    have z0 : (0 : Int32).toInt = 0 := rfl
                    have : (cmpI (Lf x) (Lf p)).toInt ≠ 0 := fun e => vn (Int32.toInt_inj.1 e)
                    omega
                refine blJ26_treeify_103 (fun o ho' => ?_) (fun hk0 => ?_)
                · rcases hkc with e | e
                  · rw [e] at ho'; cases ho'
                  · rw [e]; exact fin
                · refine blJ26_treeify_108 (J7_comparableClassFor_C (d := 1) n6'.1.1 (Nat.le_refl 1)) (by show 1 + 1 ≤ d; omega) (Nat.zero_le _) ?_ (fun _ _ _ q => absurd q id)
                  rintro v G5 ⟨rfl, rfl⟩
                  exact blJ26_treeify_113 (fun q => by cases q) (fun _ _ => fin)
              · refine blJ26_treeify_97 (step _ _ hkc (fun _ => Or.inl (Int32.not_le.1 q2)) (fun u => absurd (by decide) u))
            · rw [o4'] at q
              exact blJ26_treeify_84 (step _ _ hkc (fun u => absurd u (by decide)) (fun _ => Or.inl (Int32.not_le.1 q)))
        exact inner (hi r1 - lo r1) r1 none hT2.1.1 (Nat.le_refl _) (wi.root hT2) (Or.inl rfl)
  refine main B [] G none (some h0) rfl rk.id0 ?_ (Or.inl ⟨rfl, rfl⟩)
  have e : hp_r G t i = some h0 := by rw [hB] at hc; exact hc.1
  rw [← e]
  exact hc
end
