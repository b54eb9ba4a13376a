/-! putVal: a bin is searched -/
set_option maxRecDepth 100000
section
variable {w : WD} {d : Nat} {G : GH} {a t k i : Nat}
theorem hm_o.tr {G3 G5 : GH} (h : cf (hm_o G a) G G3) (h2 : cf (hm_o G3 a) G3 G5) : cf (hm_o G a) G G5 := h.tr2 h2 (fun x hx e => by
  rcases e with e | ⟨e1, e3⟩
  · exact Or.inl e
  · by_cases no : hm_o G a x
    · exact no
    · rw [h.kd hx] at e3
      exact Or.inr ⟨e1.cg (h.l hx no).symm, e3⟩)
/-- a bin is replaced: the map is m with l at v -/
theorem pv_bin {G1 G3 : GH} {s N n' v : Nat} {m : List Nat → Option Nat} {l : List Nat} {E : Nat → List Nat → Nat → Prop} {u : Nat → Nat} {C : List Nat} {L : Nat → List Nat} {V : Nat → Nat} (h : hmt w G1 a s m) (e2 : hp_r G1 a 2 = some t) (h4 : hp_i G1 a 4 = nI s) (hf : cf (hm_o G a) G G1)
    (hb : ∀ j, j < 2 ^ k → bk w G1 a k j (hp_r G1 t j) (E j) (u j)) (kt : hp_kd G1 t = 35) (tA : hp_A w t) (ot : ow G1 t a) (lt : hp_ln G1 t = 2 ^ k) (hk4 : 4 ≤ k) (hk8 : k ≤ 8) (e6 : hp_i G1 a 6 = nI (3 * 2 ^ (k - 2))) (hsum : sg u (2 ^ k) 0 ≤ s) (hm : ∀ l v, m l = some v ↔ E (hix k (hx l)) l v)
    (c2 : hbn w G1 a k L V (hix k (hx l)) C) (c5 : C.length = u (hix k (hx l))) (f : cf (fun x => x = t ∨ x ∈ C) G1 G3) (ht : ∀ j, j ≠ hix k (hx l) → hp_r G3 t j = hp_r G1 t j) (hl : hp_l G3 t = hp_l G1 t) (hbk : bk w G3 a k (hix k (hx l)) (hp_r G3 t (hix k (hx l))) (eu (E (hix k (hx l))) l v) n') (hN : n' + s ≤ N + C.length) :
    hmt w G3 a N (mu m l v) ∧ hp_r G3 a 2 = some t ∧ hp_i G3 a 4 = nI s ∧ cf (hm_o G a) G G3 := by
  have ka := h.1.1
  have ka0 : hp_kd G1 a ≠ 0 := by rw [ka]; decide
  have ta : t ≠ a := fun e => by rw [e, ka] at kt; cases kt
  have hC : ∀ x ∈ C, 24 ≤ hp_kd G1 x ∧ hp_kd G1 x ≤ 25 := fun x hx => (c2.2.1 x hx).1.1
  have na : ¬ (a = t ∨ a ∈ C) := by
    rintro (e | e)
    · exact ta e.symm
    · have := hC a e; rw [ka] at this; omega
  have st3 : ∀ b m, st w G1 b m → st w G3 b m := fun b m q => st_cf f (fun x hx => by
    rcases hx with e | e
    · rw [e, kt]; exact ⟨by decide, by decide⟩
    · have := hC x e; constructor <;> omega) q
  have hb3 := bins_put hb f st3 (fun x h1 h2 e => by
    rcases e with e | e
    · rw [e, kt] at h2; omega
    · obtain ⟨⟨-, -, -, n4, -⟩, n5⟩ := c2.2.1 x e
      rw [n4]; exact n5) ht hbk
  have hsu := sg_upd (u := u) (i := hix k (hx l)) (v := n') (2 ^ k) hix_lt
  refine ⟨hmt_of hb3 (by rw [f.kd ka0]; exact ka) h.1.2 (by rw [f.kd (by rw [kt]; decide)]; exact kt) tA (ot.cg hl) (by rw [f.ln (by rw [kt]; decide)]; exact lt) (by rw [f.r ka0 na]; exact e2) hk4 hk8 (by rw [f.i ka0 na]; exact e6) (by omega) (hm_upd hm), by rw [f.r ka0 na]; exact e2, by rw [f.i ka0 na]; exact h4, hm_o.tr hf (f.mono (fun x _ e => ?_))⟩
  rcases e with e | e
  · exact Or.inr ⟨by rw [e]; exact ot, Or.inl (by rw [e]; exact kt)⟩
  · have := hC x e
    exact Or.inr ⟨(c2.2.1 x e).1.2.2.1, by omega⟩
theorem pv_29 {s r key : Nat} {m : List Nat → Option Nat} {l : List Nat} {v b cs ss : Nat} {G1 : GH} (h : hmt w G1 a s m) (e2 : hp_r G1 a 2 = some t) (h4 : hp_i G1 a 4 = nI s) (hs : s ≤ 99) (hf : cf (hm_o G a) G G1) (hA : hp_kd G a = 23) (hk : st w G1 key l) (hv : hp_kd G1 v ≠ 0 ∧ hp_kd G1 v < 28) (hcmp : cmp_o w) (hd : 27 ≤ d) (hr : 48 + 2 * s ≤ r) :
    wk_V w mJ7_putVal (d, b, pv_P w G a s m l v, (fun _ _ _ => False), cs, ss) 29 [(0, vR (some a)), (1, vI (hx l)), (2, vR (some key)), (3, vR (some v)), (4, vI 0), (5, vI 1), (6, vR (some t)), (8, vI (nI (hp_ln G1 t)))] [] G1 r := by
  obtain ⟨k, E, u, hb, kt, tA, ot, lt, hk4, hk8, e6, hsum, hm, hEi⟩ := h.bins e2
  have hp2 : 2 ^ k ≤ 2 ^ 8 := Nat.pow_le_pow_right (by decide) hk8
  have ka := h.1.1
  have aA := h.1.2
  have ta : t ≠ a := fun e => by rw [e, ka] at kt; cases kt
  rw [lt]
  have ei : (nI (2 ^ k) - 1) &&& hx l = nI (hix k (hx l)) := hix_and (by omega)
  have hl := hix_lt (k := k) (h := hx l)
  have cl : (nI (hix k (hx l))).toNatClampNeg = hix k (hx l) := nI_clamp (by omega)
  obtain ⟨C, L, V, c1, c2, c3, c4, c5⟩ := hb _ hl
  have hml : ∀ v', m l = some v' ↔ ∃ x, x ∈ C ∧ L x = l ∧ V x = v' := fun v' => (hm l v').trans (c4 l v').symm
  have kC : ∀ x ∈ C, 24 ≤ hp_kd G1 x ∧ hp_kd G1 x ≤ 25 := fun x hx => (c2.2.1 x hx).1.1
  have AC : ∀ x ∈ C, hp_A w x := fun x hx => (c2.2.1 x hx).1.2.1
  have tC : t ∉ C := fun e => by have := kC t e; rw [kt] at this; omega
  have hlen : C.length ≤ s := by
    have := sg_one (g := u) (j := hix k (hx l)) (2 ^ k) 0 (Nat.zero_le _) (by omega)
    omega
  have fin := fun (G3 : GH) (N n' : Nat) => pv_bin (G3 := G3) (N := N) (n' := n') (v := v) h e2 h4 hf hb kt tA ot lt hk4 hk8 e6 hsum hm c2 c5
  -- a value is replaced
  have hit : ∀ r x, x ∈ C → L x = l → wk_V w mJ7_putVal (d, b, pv_P w G a s m l v, (fun _ _ _ => False), cs, ss) 222 [(0, vR (some a)), (3, vR (some v)), (4, vI 0), (5, vI 1), (10, vR (some x))] [] G1 r := by
    intro r x xC hL
    obtain ⟨n1, n2, n3, n4, n5, n6, n7⟩ := (c2.2.1 x xC).1
    have xt : x ≠ t := fun e => tC (by rw [← e]; exact xC)
    have hbv := bk_val (i := hix k (hx l)) c1 c2 xC c3 c4 c5 hv
    have tr : ∀ j, hp_r (hp_sR G1 x 2 (some v)) t j = hp_r G1 t j := fun j => by rw [hp_r_sR, if_neg xt.symm]
    rw [hL] at hbv
    obtain ⟨g1, g2, g3, g4⟩ := fin (hp_sR G1 x 2 (some v)) s (u (hix k (hx l))) (cf.rf.sR (Or.inl (Or.inr xC))) (fun j _ => tr j) rfl (by rw [tr]; exact hbv) (by omega)
    have eml : m l = some (V x) := (hml _).2 ⟨x, xC, hL, rfl⟩
    refine blJ7_putVal_222 (fun q => by cases q) (fun o ho => ?_)
    refine blJ7_putVal_227 rfl n1 (fun _ => ?_) (fun q => absurd rfl q)
    refine blJ7_putVal_244 rfl n1 n2 ?_
    have hCa : wk_C w mJ7_afterNodeAccess 1 0 [vR (some a), vR (some x)] (hp_sR G1 x 2 (some v)) (fun v' G' => v' = none ∧ G' = hp_sR G1 x 2 (some v)) (fun _ _ _ => False) := by
      refine wk_C_of (by decide) rfl (Nat.le_of_ble_eq_true rfl) ?_
      exact wk_sub [] trivial (blJ7_afterNodeAccess_0 ⟨rfl, rfl⟩)
    refine blJ7_putVal_250 ka hCa (by show 1 + 1 ≤ d; omega) (Nat.zero_le _) ?_ (fun _ _ _ q => absurd q id)
    rintro v' G' ⟨rfl, rfl⟩
    refine blJ7_putVal_256 ⟨by rw [n6, eml], ?_, g4⟩
    rw [eml, if_neg (fun e => by cases e)]
    exact g1.toM g3 (by omega) (fun e => by rw [g2] at e; cases e)
  -- nothing was there: a new node is in
  have miss : ∀ r G3, hmt w G3 a (s + 1) (mu m l v) ∧ hp_r G3 a 2 ≠ none ∧ hp_i G3 a 4 = nI s ∧ cf (hm_o G a) G G3 → (∀ x ∈ C, L x ≠ l) → 23 + s ≤ r → wk_V w mJ7_putVal (d, b, pv_P w G a s m l v, (fun _ _ _ => False), cs, ss) 259 [(0, vR (some a)), (5, vI 1)] [] G3 r :=
    fun r G3 g hno hr => pv_259 g.1 g.2.1 g.2.2.1 (hm_none hml hno) hs g.2.2.2 hA hcmp (by omega) hr
  have old : ∀ G3, cf (fun x => x = t ∨ x ∈ C) G1 G3 → (∀ y ∈ C, hp_i G3 y 0 = hp_i G1 y 0 ∧ hp_r G3 y 1 = hp_r G1 y 1 ∧ hp_r G3 y 2 = hp_r G1 y 2 ∧ hp_l G3 y = hp_l G1 y) → ∀ y ∈ C, hn w G3 a y (L y) (V y) ∧ hix k (hx (L y)) = hix k (hx l) := by
    intro G3 f hf0 y hy
    obtain ⟨p1, p2, p3, p4⟩ := hf0 y hy
    obtain ⟨⟨n1, n2, n3, n4, ⟨kx, n5, n6⟩, n7, n8, n9⟩, n10⟩ := c2.2.1 y hy
    have st3 : ∀ b m, st w G1 b m → st w G3 b m := fun b m q => st_cf f (fun x hx => by
      rcases hx with e | e
      · rw [e, kt]; exact ⟨by decide, by decide⟩
      · have := kC x e; constructor <;> omega) q
    exact ⟨⟨by rw [f.kd (by omega)]; exact n1, n2, n3.cg p4, p1.trans n4, ⟨kx, p2.trans n5, st3 _ _ n6⟩, p3.trans n7, f.ne n8, by rw [f.kd n8]; exact n9⟩, n10⟩
  have new : ∀ q c G2 G3 nx, (24 ≤ c ∧ c ≤ 25) → hp_A w q → nN G1 q c a (hx l) (some key) (some v) nx G2 → cf (fun x => x = t ∨ x ∈ C) G1 G3 → hp_kd G3 q = hp_kd G2 q → hp_i G3 q 0 = hp_i G2 q 0 → hp_l G3 q = hp_l G2 q → (∀ j, j < 3 → hp_r G3 q j = hp_r G2 q j) → hn w G3 a q l v := by
    intro q c G2 G3 nx hc qA hq f p1 p2 p3 p4
    obtain ⟨q0, f1, f2, f3, f4, f5, f6, f7, f8, f9⟩ := hq
    have st3 : ∀ b m, st w G1 b m → st w G3 b m := fun b m q => st_cf f (fun x hx => by
      rcases hx with e | e
      · rw [e, kt]; exact ⟨by decide, by decide⟩
      · have := kC x e; constructor <;> omega) q
    exact ⟨by rw [p1, f2]; exact hc, qA, f3.cg p3, p2.trans f4, ⟨key, (p4 1 (by decide)).trans f5, st3 _ _ hk⟩, (p4 2 (by decide)).trans f6, f.ne hv.1, by rw [f.kd hv.1]; exact hv.2⟩
  have qnC : ∀ q, hp_kd G1 q = 0 → q ∉ C := fun q q0 e => by have := kC q e; omega
  have qnt : ∀ q, hp_kd G1 q = 0 → q ≠ t := fun q q0 e => by rw [e, kt] at q0; cases q0
  refine blJ7_putVal_29 rfl (by rw [ei, lt]; exact vp_in_nI hl (by omega)) (by rw [kt]; decide) (fun x0 hx0 => ?_) (fun q0 => ?_)
  · rw [ei, cl] at hx0 ⊢
    rw [hx0] at c1 ⊢
    obtain ⟨ys, eC⟩ : ∃ ys, C = x0 :: ys := by
      cases C with
      | nil => cases c1
      | cons y ys => exact ⟨ys, by rw [Option.some.inj c1.1]⟩
    have x0C : x0 ∈ C := by rw [eC]; exact List.mem_cons_self
    obtain ⟨n1, n2, n3, n4, ⟨kx, n5, n6⟩, n7⟩ := (c2.2.1 x0 x0C).1
    -- the head isn't it
    have nl : L x0 ≠ l → wk_V w mJ7_putVal (d, b, pv_P w G a s m l v, (fun _ _ _ => False), cs, ss) 104 [(0, vR (some a)), (1, vI (hx l)), (2, vR (some key)), (3, vR (some v)), (4, vI 0), (5, vI 1), (6, vR (some t)), (7, vR (some x0))] [] G1 r := by
      intro hne
      rcases c2.2.2 with c24 | c25
      · have k0 := c24 x0 x0C
        refine blJ7_putVal_104 (v1 := 0) (Or.inr ⟨x0, rfl, by rw [k0]; decide, by rw [k0]; decide, Or.inr ⟨rfl, by rw [k0]; decide +kernel⟩⟩) (fun _ => ?_) (fun q => absurd rfl q)
        refine blJ7_putVal_131 ?_
        have loop : ∀ rest P p, C = P ++ p :: rest → (∀ y ∈ P ++ [p], L y ≠ l) → wk_V w mJ7_putVal (d, b, pv_P w G a s m l v, (fun _ _ _ => False), cs, ss) 134 [(0, vR (some a)), (1, vI (hx l)), (2, vR (some key)), (3, vR (some v)), (4, vI 0), (5, vI 1), (6, vR (some t)), (7, vR (some p)), (12, vI (nI P.length))] [] G1 r := by
          intro rest
          induction rest with
          | nil =>
            intro P p eP hno
            have pC : p ∈ C := by rw [eP]; exact List.mem_append_right _ List.mem_cons_self
            have c1s := c1
            rw [← hseg_ch, eP] at c1s
            obtain ⟨mm, d1, d2, d3⟩ := (hseg_app _ _ _ _).1 c1s
            have ep : hp_r G1 p 3 = none := d3
            refine blJ7_putVal_134 rfl (kC p pC) (fun o ho => by rw [ep] at ho; cases ho) (fun _ => ?_)
            rw [ep]
            refine blJ7_putVal_145 ka (J7_newNode_C (d := 2) (Nat.le_refl 2)) (by show 2 + 1 ≤ d; omega) (by show 1 ≤ r; omega) ?_ (fun _ _ _ q => absurd q id)
            rintro v' G2 ⟨q, rfl, qA, hq⟩
            obtain ⟨q0, f1, f2, f3, f4, f5, f6, f7, f8, f9⟩ := id hq
            have pq : p ≠ q := fun e => qnC q q0 (by rw [← e]; exact pC)
            have kp2 : hp_kd G2 p = hp_kd G1 p := (f9 p pq).1
            have f3' : cf (fun x => x = t ∨ x ∈ C) G1 (hp_sR G2 p 3 (some q)) := (f1.mono (own2 := fun x => x = t ∨ x ∈ C) (fun _ _ e => e.elim)).sR (Or.inl (Or.inr pC))
            have rk : ∀ y j, y ≠ q → ¬ (y = p ∧ j = 3) → hp_r (hp_sR G2 p 3 (some q)) y j = hp_r G1 y j := fun y j hy hj => by
              rw [hp_r_sR]
              by_cases e : y = p
              · rw [if_pos e, if_neg (fun u => hj ⟨e, u⟩), (f9 y hy).2.2.1]
              · rw [if_neg e, (f9 y hy).2.2.1]
            have hch' : hch (hp_sR G2 p 3 (some q)) (some x0) (C ++ [q]) := by
              rw [← hseg_ch] at c1 ⊢
              refine (hseg_app _ _ _ _).2 ⟨some q, hseg_last _ _ none c1 p (some q) (by rw [eP, lst_app]; rfl) c2.1 (fun y hy hne => rk y 3 (fun e => qnC q q0 (by rw [← e]; exact hy)) (fun u => hne u.1)) (by rw [hp_r_sR, if_pos rfl, if_pos rfl]), rfl, ?_⟩
              show hp_r (hp_sR G2 p 3 (some q)) q 3 = none
              rw [hp_r_sR, if_neg pq.symm]; exact f7
            have hno' : ∀ x ∈ C, L x ≠ l := fun x hx => hno x (by rw [← eP]; exact hx)
            have tk' : hp_r (hp_sR G2 p 3 (some q)) t = hp_r G1 t := funext fun j => rk t j (qnt q q0).symm (fun u => tC (by rw [u.1]; exact pC))
            have hbk := bk_ins (C' := C ++ [q]) (L := L) (V := V) (k := k) (i := hix k (hx l)) (E := E (hix k (hx l))) (p := some x0) (fun y => by simp only [List.mem_append, List.mem_cons, List.not_mem_nil, or_false]; exact Or.comm) c2.1 (List.nodup_append.2 ⟨c2.1, List.nodup_cons.2 ⟨(by intro e; cases e), List.nodup_nil⟩, fun x hx y hy e => qnC q q0 (by rw [List.mem_singleton] at hy; rw [← hy, ← e]; exact hx)⟩) hch' (new q 24 G2 _ none ⟨by decide, by decide⟩ qA hq f3' rfl rfl rfl (fun j hj => by rw [hp_r_sR, if_neg pq.symm])) rfl
              (old _ f3' (fun y hy => by
                have yq : y ≠ q := fun e => qnC q q0 (by rw [← e]; exact hy)
                exact ⟨by show hp_i G2 y 0 = _; rw [(f9 y yq).2.1], rk y 1 yq (fun u => absurd u.2 (by decide)), rk y 2 yq (fun u => absurd u.2 (by decide)), by show hp_l G2 y = _; rw [(f9 y yq).2.2.2]⟩))
              (Or.inl fun y hy => by
                rcases List.mem_append.1 hy with e | e
                · have yq : y ≠ q := fun e2 => qnC q q0 (by rw [← e2]; exact e)
                  show hp_kd G2 y = 24
                  rw [(f9 y yq).1]; exact c24 y e
                · rw [List.mem_singleton.1 e]; exact f2) (qnC q q0) hno' c3 c4 c5
            obtain ⟨g1, g2, g3, g4⟩ := fin (hp_sR G2 p 3 (some q)) (s + 1) (u (hix k (hx l)) + 1) f3' (fun j _ => by rw [tk']) (by show hp_l G2 t = _; rw [(f9 t (qnt q q0).symm).2.2.2]) (by rw [tk', hx0]; exact hbk) (by omega)
            refine blJ7_putVal_155 rfl (by rw [kp2]; exact kC p pC) (AC p pC) (fun _ => ?_) (fun _ => ?_)
            · exact blJ7_putVal_222 (fun _ => miss _ _ ⟨g1, by rw [g2]; exact (fun e => by cases e), g3, g4⟩ hno' (by omega)) (fun o ho => by cases ho)
            · refine blJ7_putVal_165 g1.1.1 (J7_treeifyBin_C (d := 26) g1 g2 (by omega) hcmp (Nat.le_refl 26)) (by show 26 + 1 ≤ d; omega) (by omega) ?_ (fun _ _ _ q => absurd q id)
              rintro v' G5 ⟨rfl, r1, r2, r3, r4⟩
              refine blJ7_putVal_172 (blJ7_putVal_222 (fun _ => miss _ _ ⟨r2, r1, r3.trans g3, hm_o.tr g4 r4⟩ hno' (by omega)) (fun o ho => by cases ho))
          | cons e rest ih =>
            intro P p eP hno
            have pC : p ∈ C := by rw [eP]; exact List.mem_append_right _ List.mem_cons_self
            have eC2 : e ∈ C := by rw [eP]; exact List.mem_append_right _ (List.mem_cons_of_mem _ List.mem_cons_self)
            have c1s := c1
            rw [← hseg_ch, eP] at c1s
            obtain ⟨mm, d1, d2, d3, d4⟩ := (hseg_app _ _ _ _).1 c1s
            have ep : hp_r G1 p 3 = some e := d3
            obtain ⟨m1, m2, m3, m4, ⟨kz, m5, m6⟩, m7⟩ := (c2.2.1 e eC2).1
            have nx : L e ≠ l → wk_V w mJ7_putVal (d, b, pv_P w G a s m l v, (fun _ _ _ => False), cs, ss) 212 [(0, vR (some a)), (1, vI (hx l)), (2, vR (some key)), (3, vR (some v)), (4, vI 0), (5, vI 1), (6, vR (some t)), (10, vR (some e)), (12, vI (nI P.length))] [] G1 r := by
              intro hne
              refine blJ7_putVal_212 ?_
              have := ih (P ++ [p]) e (by rw [eP, List.append_assoc]; rfl) (fun y hy => by
                rcases List.mem_append.1 hy with q | q
                · exact hno y q
                · rw [List.mem_singleton.1 q]; exact hne)
              rw [List.length_append, List.length_singleton, ← nI_1] at this
              exact this
            refine blJ7_putVal_134 rfl (kC p pC) (fun o ho => ?_) (fun q => by rw [ep] at q; cases q)
            rw [ep]
            refine blJ7_putVal_175 rfl m1 (fun q => nx (fun e' => q (by rw [m4, e']))) (fun _ => ?_)
            refine blJ7_putVal_184 rfl m1 (fun q => ?_) (fun q => ?_)
            · rw [m5] at q
              have e' : kz = key := Option.some.inj q
              subst e'
              exact hit r e eC2 (m6.1.uq hk.1)
            · rw [m5]
              refine blJ7_putVal_196 (fun v => by cases v) (fun o _ => ?_)
              refine blJ7_putVal_200_k26 rfl hk.1.1 (J13_equals_C (d := 1) hk.1 m6.1 (Nat.le_refl 1)) (by show 1 + 1 ≤ d; omega) (Nat.zero_le _) ?_ (fun _ _ _ q => absurd q id)
              rintro v' G' ⟨rfl, rfl⟩
              exact blJ7_putVal_206 (fun v0 => nx (fun e' => lx_b0.1 v0 e'.symm)) (fun v1 => blJ7_putVal_209 (hit r e eC2 (lx_b1 v1).symm))
        exact loop ys [] x0 eC (fun y hy => by rw [List.nil_append, List.mem_singleton] at hy; rw [hy]; exact hne)
      · have k0 : hp_kd G1 x0 = 25 := by
          obtain ⟨r', xs, ps, lo, hi, e, p1, p2, p3⟩ := id c25
          exact (p2.2 x0 x0C).1
        refine blJ7_putVal_104 (v1 := 1) (Or.inr ⟨x0, rfl, by rw [k0]; decide, by rw [k0]; decide, Or.inl ⟨rfl, by rw [k0]; exact Or.inl rfl⟩⟩) (fun q => absurd q (by decide)) (fun _ => ?_)
        refine blJ7_putVal_112 (fun y hy => ?_) rfl k0 (J26_putTreeVal_C (d := 23) (k := k) (i := hix k (hx l)) ka kt tA lt (by omega) c2.2.1 ⟨ys, eC⟩ (by rw [hx0]; exact c1) c25 c2.1 hk rfl hcmp (Nat.le_refl 23)) (by show 23 + 1 ≤ d; omega) (by show 1 ≤ r; omega) ?_ (fun _ _ _ q => absurd q id)
        · cases hy
          rw [k0]
          exact ⟨by decide, by decide, Or.inl rfl⟩
        · rintro v' G3 (⟨x, x1, x2, rfl, rfl⟩ | ⟨hno, rfl, q, G2, nx, B', qA, hq, htk, b1, b2, b3, b4⟩)
          · exact blJ7_putVal_126 (hit _ x x1 x2)
          · obtain ⟨q0, f1, f2, f3, f4, f5, f6, f7, f8, f9⟩ := id hq
            obtain ⟨t1, t2, t3, t4, t5⟩ := htk
            have f3' : cf (fun x => x = t ∨ x ∈ C) G1 G3 := (f1.mono (own2 := fun x => x = t ∨ x ∈ C) (fun _ _ e => e.elim)).tr2 t1 (fun x hx e => by
              rcases e with e | e
              · rcases List.mem_cons.1 e with e | e
                · rw [e] at hx; exact absurd q0 hx
                · exact Or.inr e
              · exact Or.inl e)
            have kq3 : hp_kd G3 q = hp_kd G2 q := t1.kd (by rw [f2]; decide)
            have hbk := bk_ins (C' := B') (L := L) (V := V) (k := k) (i := hix k (hx l)) (E := E (hix k (hx l))) b1 c2.1 b2 b3 (new q 25 G2 _ nx ⟨by decide, by decide⟩ qA hq f3' kq3 (t4 q 0 (by decide)) (t5 q) (fun j hj => t2 q j (qnt q q0) hj)) rfl
              (old _ f3' (fun y hy => by
                have yq : y ≠ q := fun e => qnC q q0 (by rw [← e]; exact hy)
                have yt : y ≠ t := fun e => tC (by rw [← e]; exact hy)
                exact ⟨by rw [t4 y 0 (by decide), (f9 y yq).2.1], by rw [t2 y 1 yt (by decide), (f9 y yq).2.2.1], by rw [t2 y 2 yt (by decide), (f9 y yq).2.2.1], by rw [t5 y, (f9 y yq).2.2.2]⟩))
              (Or.inr b4) (qnC q q0) hno c3 c4 c5
            obtain ⟨g1, g2, g3, g4⟩ := fin G3 (s + 1) (u (hix k (hx l)) + 1) f3' (fun j hj => by rw [t3 j hj, (f9 t (qnt q q0).symm).2.2.1]) (by rw [t5, (f9 t (qnt q q0).symm).2.2.2]) hbk (by omega)
            exact blJ7_putVal_126 (blJ7_putVal_222 (fun _ => miss _ _ ⟨g1, by rw [g2]; exact (fun e => by cases e), g3, g4⟩ hno (by omega)) (fun o ho => by cases ho))
    refine blJ7_putVal_63 rfl n1 (fun q => nl (fun e => q (by rw [n4, e]))) (fun _ => ?_)
    refine blJ7_putVal_72 rfl n1 (fun q => ?_) (fun q => ?_)
    · rw [n5] at q
      have e : kx = key := Option.some.inj q
      subst e
      exact blJ7_putVal_97 (hit r x0 x0C (n6.1.uq hk.1))
    · rw [n5]
      refine blJ7_putVal_84 (fun v => by cases v) (fun o _ => ?_)
      refine blJ7_putVal_88_k26 rfl hk.1.1 (J13_equals_C (d := 1) hk.1 n6.1 (Nat.le_refl 1)) (by show 1 + 1 ≤ d; omega) (Nat.zero_le _) ?_ (fun _ _ _ q => absurd q id)
      rintro v' G' ⟨rfl, rfl⟩
      exact blJ7_putVal_94 (fun v0 => nl (fun e => lx_b0.1 v0 e.symm)) (fun v1 => blJ7_putVal_97 (hit r x0 x0C (lx_b1 v1).symm))
  · rw [ei, cl] at q0
    rw [q0] at c1
    have eC : C = [] := by
      cases C with
      | nil => rfl
      | cons y ys => cases c1.1
    refine blJ7_putVal_47 ka (J7_newNode_C (d := 2) (Nat.le_refl 2)) (by show 2 + 1 ≤ d; omega) (by show 1 ≤ r; omega) ?_ (fun _ _ _ q => absurd q id)
    rintro v' G2 ⟨q, rfl, qA, hq⟩
    obtain ⟨qz, f1, f2, f3, f4, f5, f6, f7, f8, f9⟩ := id hq
    have tq : t ≠ q := (qnt q qz).symm
    have kt2 : hp_kd G2 t = 35 := (f9 t tq).1.trans kt
    refine blJ7_putVal_59 rfl (by rw [ei, f1.ln (by rw [kt]; decide), lt]; exact vp_in_nI hl (by omega)) tA (by rw [kt2]; decide) (by rw [kt2]; rfl) (fun b hb => ?_) ?_
    · rw [← Option.some.inj hb, f2]
      exact ⟨by decide, by decide, Or.inl rfl⟩
    · rw [ei, cl]
      have f3' : cf (fun x => x = t ∨ x ∈ C) G1 (hp_sR G2 t (hix k (hx l)) (some q)) := (f1.mono (own2 := fun x => x = t ∨ x ∈ C) (fun _ _ e => e.elim)).sR (Or.inl (Or.inl rfl))
      have hno : ∀ x ∈ C, L x ≠ l := fun x hx => by rw [eC] at hx; cases hx
      have rq : ∀ j, hp_r (hp_sR G2 t (hix k (hx l)) (some q)) q j = hp_r G2 q j := fun j => by rw [hp_r_sR, if_neg tq.symm]
      have hbk := bk_ins (C' := [q]) (L := L) (V := V) (k := k) (i := hix k (hx l)) (E := E (hix k (hx l))) (p := some q) (fun y => by rw [eC]) c2.1 (List.nodup_cons.2 ⟨(by intro e; cases e), List.nodup_nil⟩) ⟨rfl, by rw [rq]; exact f7⟩ (new q 24 G2 _ none ⟨by decide, by decide⟩ qA hq f3' rfl rfl rfl (fun j _ => rq j)) rfl
        (fun y hy => by rw [eC] at hy; cases hy) (Or.inl fun y hy => by rw [List.mem_singleton.1 hy]; exact f2) (qnC q qz) hno c3 c4 c5
      obtain ⟨g1, g2, g3, g4⟩ := fin (hp_sR G2 t (hix k (hx l)) (some q)) (s + 1) (u (hix k (hx l)) + 1) f3' (fun j hj => by rw [hp_r_sR, if_pos rfl, if_neg hj, (f9 t tq).2.2.1]) (by show hp_l G2 t = _; rw [(f9 t tq).2.2.2]) (by rw [hp_r_sR, if_pos rfl, if_pos rfl]; exact hbk) (by omega)
      exact miss _ _ ⟨g1, by rw [g2]; exact (fun e => by cases e), g3, g4⟩ hno (by omega)
end
