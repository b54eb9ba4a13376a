/-! resize: a bin of plain nodes is split -/
set_option maxRecDepth 100000
theorem lst_nil {pl : List Nat} (h : lst none pl = none) : pl = [] := by
  cases pl with
  | nil => rfl
  | cons y ys =>
    exfalso
    have key : ∀ (xs : List Nat) (y : Nat), lst (some y) xs ≠ none := by
      intro xs
      induction xs with
      | nil => intro y h; cases h
      | cons v vs ih => intro y h; exact ih v h
    exact key ys y h
theorem lst_in {pl : List Nat} {z : Nat} (h : lst none pl = some z) : z ∈ pl := (lst_mem _ _ z h).elim (fun e => by cases e) id
theorem app_seg {G G' : GH} {pl : List Nat} {x : Nat} {p q : Option Nat} (h : hseg G p pl q) (nd : pl.Nodup) (h3 : ∀ y ∈ pl, hp_r G' y 3 = if lst none pl = some y then some x else hp_r G y 3) : hseg G' (if pl = [] then some x else p) (pl ++ [x]) (hp_r G' x 3) := by
  cases e : lst none pl with
  | none =>
    have e2 := lst_nil e
    subst e2
    exact ⟨rfl, rfl⟩
  | some z =>
    have zm := lst_in e
    rw [if_neg (fun u => by rw [u] at zm; cases zm)]
    refine (hseg_app _ _ _ _).2 ⟨some x, hseg_last _ _ _ h z (some x) e nd (fun y hy hne => ?_) ?_, rfl, rfl⟩
    · rw [h3 y hy, e, if_neg (fun u => hne (Option.some.inj u).symm)]
    · rw [h3 z zm, e, if_pos rfl]
/-- only the next of the cells C has changed -/
def n3 (C : List Nat) (G G' : GH) : Prop := cf (fun x => x ∈ C) G G' ∧ (∀ y i, (i ≠ 3 ∨ y ∉ C) → hp_r G' y i = hp_r G y i) ∧ (∀ y, hp_i G' y = hp_i G y) ∧ ∀ y, hp_l G' y = hp_l G y
section
variable {w : WD} {G : GH} {a t n k j : Nat} {C : List Nat} {L : Nat → List Nat}
theorem n3.id0 : n3 C G G := ⟨cf.rf, fun _ _ _ => rfl, fun _ => rfl, fun _ => rfl⟩
theorem n3.sR {G1 : GH} {x : Nat} {v : Option Nat} (h : n3 C G G1) (hx : x ∈ C) : n3 C G (hp_sR G1 x 3 v) := by
  refine ⟨h.1.sR (Or.inl hx), fun y i hi => ?_, h.2.2.1, h.2.2.2⟩
  rw [hp_r_sR]
  by_cases e : y = x
  · rw [if_pos e, if_neg (fun u => hi.elim (fun v => v u) (fun v => v (by rw [e]; exact hx)))]
    exact h.2.1 y i hi
  · rw [if_neg e]; exact h.2.1 y i hi
theorem rz_plain {J : JB} {r h0 : Nat} {ys : List Nat} {x4 : Int32} (kn : hp_kd G n = 35) (nA : hp_A w n) (ln : hp_ln G n = 2 ^ (k + 1)) (hk : k ≤ 10) (hj : j < 2 ^ k) (eC : C = h0 :: ys) (hC : hch G (some h0) C) (nd : C.Nodup) (hK : ∀ x ∈ C, hp_kd G x = 24 ∧ hp_A w x ∧ hp_i G x 0 = hx (L x)) (n0 : hp_r G n j = none ∧ hp_r G n (j + 2 ^ k) = none)
    (kk : ∀ G2, hch G2 (hp_r G2 n j) (fl k L C) → hch G2 (hp_r G2 n (j + 2 ^ k)) (fh k L C) → cf (fun x => x ∈ C ∨ x = n) G G2 → (∀ x i, x ≠ n → i ≠ 3 → hp_r G2 x i = hp_r G x i) → (∀ x, hp_i G2 x = hp_i G x) → (∀ x, hp_l G2 x = hp_l G x) → (∀ i, i ≠ j → i ≠ j + 2 ^ k → hp_r G2 n i = hp_r G n i) → wk_V w mJ7_resize J 347 [(0, vR (some a)), (1, vR (some t)), (2, vI (nI (2 ^ k))), (4, vI x4), (6, vR (some n)), (7, vI (nI j))] [] G2 r) :
    wk_V w mJ7_resize J 223 [(0, vR (some a)), (1, vR (some t)), (2, vI (nI (2 ^ k))), (4, vI x4), (6, vR (some n)), (7, vI (nI j)), (8, vR (some h0))] [] G r := by
  have hp2 : 2 ^ k ≤ 2 ^ 10 := Nat.pow_le_pow_right (by decide) hk
  have hp3 : 2 ^ (k + 1) = 2 ^ k + 2 ^ k := by rw [Nat.pow_succ]; omega
  have nC : n ∉ C := fun u => by have := (hK n u).1; rw [kn] at this; cases this
  have cl1 : (nI j).toNatClampNeg = j := nI_clamp (by omega)
  have cl2 : (nI (j + 2 ^ k)).toNatClampNeg = j + 2 ^ k := nI_clamp (by omega)
  have eh2 : nI j + nI (2 ^ k) = nI (j + 2 ^ k) := nI_add _ _
  have ipos : 0 < 2 ^ k := Nat.two_pow_pos k
  have fC : ∀ x ∈ fl k L C, x ∈ C := fun x hx => (fl_mem.1 hx).1
  have hC' : ∀ x ∈ fh k L C, x ∈ C := fun x hx => (fh_mem.1 hx).1
  -- behind the loop
  have fin : ∀ G1 p9 p11, n3 C G G1 → (∃ q, hseg G1 p9 (fl k L C) q) → (∃ q, hseg G1 p11 (fh k L C) q) → wk_V w mJ7_resize J 309 [(0, vR (some a)), (1, vR (some t)), (2, vI (nI (2 ^ k))), (4, vI x4), (6, vR (some n)), (7, vI (nI j)), (9, vR p9), (10, vR (lst none (fl k L C))), (11, vR p11), (12, vR (lst none (fh k L C)))] [] G1 r := by
    rintro G1 p9 p11 g1 ⟨q, c1⟩ ⟨q', c2⟩
    have rn1 : hp_r G1 n = hp_r G n := by funext i; exact g1.2.1 n i (Or.inr nC)
    have k1 : ∀ x ∈ C, hp_kd G1 x = 24 := fun x hx => by rw [g1.1.kd (by rw [(hK x hx).1]; decide)]; exact (hK x hx).1
    have kn1 : hp_kd G1 n = 35 := by rw [g1.1.kd (by rw [kn]; decide)]; exact kn
    have ln1 : hp_ln G1 n = 2 ^ (k + 1) := by rw [g1.1.ln (by rw [kn]; decide)]; exact ln
    have ndh : (fh k L C).Nodup := List.Pairwise.filter _ nd
    have ndl : (fl k L C).Nodup := List.Pairwise.filter _ nd
    -- the high half
    have high : ∀ G2, hch G2 (hp_r G2 n j) (fl k L C) → cf (fun x => x ∈ C ∨ x = n) G G2 → (∀ x i, x ≠ n → i ≠ 3 → hp_r G2 x i = hp_r G x i) → (∀ x, hp_i G2 x = hp_i G x) → (∀ x, hp_l G2 x = hp_l G x) → (∀ i, i ≠ j → hp_r G2 n i = hp_r G n i) → (∀ x ∈ fh k L C, hp_r G2 x 3 = hp_r G1 x 3) →
        wk_V w mJ7_resize J 327 [(0, vR (some a)), (1, vR (some t)), (2, vI (nI (2 ^ k))), (4, vI x4), (6, vR (some n)), (7, vI (nI j)), (11, vR p11), (12, vR (lst none (fh k L C)))] [] G2 r := by
      intro G2 b1 b2 b3 b4 b5 b6 b7
      refine blJ7_resize_327 (fun e => ?_) (fun z hz => ?_)
      · have e2 := lst_nil e
        refine kk G2 b1 ?_ b2 b3 b4 b5 (fun i hi _ => b6 i hi)
        rw [e2, b6 _ (by omega), n0.2]
        rfl
      · have zm := lst_in hz
        have zC := hC' z zm
        have zn : z ≠ n := fun e => nC (by rw [← e]; exact zC)
        have kz : hp_kd G2 z = 24 := by rw [b2.kd (by rw [(hK z zC).1]; decide)]; exact (hK z zC).1
        have kn2 : hp_kd G2 n = 35 := by rw [b2.kd (by rw [kn]; decide)]; exact kn
        have ln2 : hp_ln G2 n = 2 ^ (k + 1) := by rw [b2.ln (by rw [kn]; decide)]; exact ln
        have hne : fh k L C ≠ [] := fun e => by rw [e] at zm; cases zm
        refine blJ7_resize_332 hz (by rw [kz]; decide) (hK z zC).2.1 rfl (by rw [eh2]; show vp_in _ (hp_ln G2 n); rw [ln2]; exact vp_in_nI (by omega) (by omega)) nA (by show 32 ≤ hp_kd G2 n; rw [kn2]; decide) (by show hp_at (hp_kd G2 n) = _; rw [kn2]; rfl) (fun b hb => ?_) ?_
        · cases eq : fh k L C with
          | nil => exact absurd eq hne
          | cons y ys' =>
            rw [eq] at c2
            have e : b = y := Option.some.inj (hb.symm.trans c2.1)
            have yC : y ∈ C := hC' y (by rw [eq]; exact List.mem_cons_self)
            show hp_kd G2 b ≠ 0 ∧ hp_kd G2 b < 28 ∧ hp_sub (hp_kd G2 b) _
            rw [e, b2.kd (by rw [(hK y yC).1]; decide), (hK y yC).1]
            exact ⟨by decide, by decide, Or.inl rfl⟩
        · rw [eh2, cl2]
          have s3 : ∀ x, x ≠ n → hp_r (hp_sR (hp_sR G2 z 3 none) n (j + 2 ^ k) p11) x 3 = if x = z then none else hp_r G2 x 3 := fun x hx => by
            rw [hp_r_sR, if_neg hx, hp_r_sR]
            by_cases e : x = z
            · rw [if_pos e, if_pos rfl, if_pos e]
            · rw [if_neg e, if_neg e]
          refine kk _ ?_ ?_ ((b2.sR (Or.inl (Or.inl zC))).sR (Or.inl (Or.inr rfl))) (fun x i hx hi => ?_) b4 b5 (fun i hi hi2 => ?_)
          · rw [hp_r_sR, if_pos rfl, if_neg (by omega), hp_r_sR, if_neg zn.symm]
            refine b1.fr3 (fun x hx => ?_)
            rw [s3 x (fun e => nC (by rw [← e]; exact fC x hx)), if_neg (fun e => (fh_mem.1 zm).2 (by rw [← e]; exact (fl_mem.1 hx).2))]
          · rw [hp_r_sR, if_pos rfl, if_pos rfl, ← hseg_ch]
            refine hseg_last _ _ q' c2 z none hz ndh (fun x hx hne => ?_) ?_
            · rw [s3 x (fun e => nC (by rw [← e]; exact hC' x hx)), if_neg hne]; exact b7 x hx
            · rw [s3 z zn, if_pos rfl]
          · rw [hp_r_sR, if_neg hx, hp_r_sR]
            by_cases e : x = z
            · rw [if_pos e, if_neg hi]; exact b3 x i hx hi
            · rw [if_neg e]; exact b3 x i hx hi
          · rw [hp_r_sR, if_pos rfl, if_neg hi2, hp_r_sR, if_neg zn.symm]
            exact b6 i hi
    refine blJ7_resize_309 (fun e => ?_) (fun z hz => ?_)
    · have e2 := lst_nil e
      refine high G1 ?_ (g1.1.mono (fun _ _ u => Or.inl u)) (fun x i _ hi => g1.2.1 x i (Or.inl hi)) g1.2.2.1 g1.2.2.2 (fun i _ => by rw [rn1]) (fun _ _ => rfl)
      rw [e2, rn1, n0.1]
      rfl
    · have zm := lst_in hz
      have zC := fC z zm
      have zn : z ≠ n := fun e => nC (by rw [← e]; exact zC)
      have hne : fl k L C ≠ [] := fun e => by rw [e] at zm; cases zm
      refine blJ7_resize_314 hz (by rw [k1 z zC]; decide) (hK z zC).2.1 rfl (by show vp_in _ (hp_ln G1 n); rw [ln1]; exact vp_in_nI (by omega) (by omega)) nA (by show 32 ≤ hp_kd G1 n; rw [kn1]; decide) (by show hp_at (hp_kd G1 n) = _; rw [kn1]; rfl) (fun b hb => ?_) ?_
      · cases eq : fl k L C with
        | nil => exact absurd eq hne
        | cons y ys' =>
          rw [eq] at c1
          have e : b = y := Option.some.inj (hb.symm.trans c1.1)
          have yC : y ∈ C := fC y (by rw [eq]; exact List.mem_cons_self)
          show hp_kd G1 b ≠ 0 ∧ hp_kd G1 b < 28 ∧ hp_sub (hp_kd G1 b) _
          rw [e, k1 y yC]
          exact ⟨by decide, by decide, Or.inl rfl⟩
      · rw [cl1]
        have s3 : ∀ x, x ≠ n → hp_r (hp_sR (hp_sR G1 z 3 none) n j p9) x 3 = if x = z then none else hp_r G1 x 3 := fun x hx => by
          rw [hp_r_sR, if_neg hx, hp_r_sR]
          by_cases e : x = z
          · rw [if_pos e, if_pos rfl, if_pos e]
          · rw [if_neg e, if_neg e]
        refine high _ ?_ (((g1.1.mono (fun _ _ u => Or.inl u)).sR (Or.inl (Or.inl zC))).sR (Or.inl (Or.inr rfl))) (fun x i hx hi => ?_) g1.2.2.1 g1.2.2.2 (fun i hi => ?_) (fun x hx => ?_)
        · rw [hp_r_sR, if_pos rfl, if_pos rfl, ← hseg_ch]
          refine hseg_last _ _ q c1 z none hz ndl (fun x hx hne => ?_) ?_
          · rw [s3 x (fun e => nC (by rw [← e]; exact fC x hx)), if_neg hne]
          · rw [s3 z zn, if_pos rfl]
        · rw [hp_r_sR, if_neg hx, hp_r_sR]
          by_cases e : x = z
          · rw [if_pos e, if_neg hi]; exact g1.2.1 x i (Or.inl hi)
          · rw [if_neg e]; exact g1.2.1 x i (Or.inl hi)
        · rw [hp_r_sR, if_pos rfl, if_neg hi, hp_r_sR, if_neg zn.symm, rn1]
        · rw [s3 x (fun e => nC (by rw [← e]; exact hC' x hx)), if_neg (fun e => (fh_mem.1 hx).2 (by rw [e]; exact (fl_mem.1 zm).2))]
  have step : ∀ (rest P : List Nat) (G1 : GH) (p9 p11 : Option Nat) (x : Nat), C = P ++ x :: rest → n3 C G G1 → (∃ q, hseg G1 p9 (fl k L P) q) → (∃ q, hseg G1 p11 (fh k L P) q) → (∀ y ∈ x :: rest, hp_r G1 y 3 = hp_r G y 3) →
      (∀ G2 p9' p11', n3 C G G2 → (∃ q, hseg G2 p9' (fl k L (P ++ [x])) q) → (∃ q, hseg G2 p11' (fh k L (P ++ [x])) q) → (∀ y ∈ rest, hp_r G2 y 3 = hp_r G y 3) → wk_V w mJ7_resize J 301 [(0, vR (some a)), (1, vR (some t)), (2, vI (nI (2 ^ k))), (4, vI x4), (6, vR (some n)), (7, vI (nI j)), (9, vR p9'), (10, vR (lst none (fl k L (P ++ [x])))), (11, vR p11'), (12, vR (lst none (fh k L (P ++ [x])))), (13, vR (hp_r G x 3))] [] G2 r) →
      wk_V w mJ7_resize J 235 [(0, vR (some a)), (1, vR (some t)), (2, vI (nI (2 ^ k))), (4, vI x4), (6, vR (some n)), (7, vI (nI j)), (8, vR (some x)), (9, vR p9), (10, vR (lst none (fl k L P))), (11, vR p11), (12, vR (lst none (fh k L P)))] [] G1 r := by
    rintro rest P G1 p9 p11 x e1 g1 ⟨q, c1⟩ ⟨q', c2⟩ h3 kont
    have xC : x ∈ C := by rw [e1]; exact List.mem_append_right _ List.mem_cons_self
    have PC : ∀ y ∈ P, y ∈ C := fun y hy => by rw [e1]; exact List.mem_append_left _ hy
    have nd1 := nd
    rw [e1] at nd1
    obtain ⟨na, nb, nc⟩ := List.nodup_append.1 nd1
    have nb2 := List.nodup_cons.1 nb
    have xP : x ∉ P := fun u => nc x u x List.mem_cons_self rfl
    have rP : ∀ y ∈ rest, y ∉ P := fun y hy u => nc y u y (List.mem_cons_of_mem _ hy) rfl
    have k1 : ∀ y ∈ C, hp_kd G1 y = 24 := fun y hy => by rw [g1.1.kd (by rw [(hK y hy).1]; decide)]; exact (hK y hy).1
    have e3 : hp_r G1 x 3 = hp_r G x 3 := h3 x List.mem_cons_self
    have ei : hp_i G1 x 0 = hx (L x) := by rw [g1.2.2.1]; exact (hK x xC).2.2
    have fsub : ∀ y ∈ fl k L P, y ∈ P := fun y hy => (fl_mem.1 hy).1
    have hsub : ∀ y ∈ fh k L P, y ∈ P := fun y hy => (fh_mem.1 hy).1
    have nfl : (fl k L P).Nodup := List.Pairwise.filter _ na
    have nfh : (fh k L P).Nodup := List.Pairwise.filter _ na
    -- x is put behind pl; ol stays
    have app : ∀ (pl ol : List Nat) (p : Option Nat) (q : Option Nat) (G2 : GH), (∀ y ∈ pl, y ∈ P) → (∀ y ∈ ol, y ∈ P) → pl.Nodup → (∀ y ∈ ol, y ∉ pl) → hseg G1 p pl q → ((lst none pl = none ∧ G2 = G1) ∨ ∃ z, lst none pl = some z ∧ G2 = hp_sR G1 z 3 (some x)) →
        n3 C G G2 ∧ (∃ q, hseg G2 (if pl = [] then some x else p) (pl ++ [x]) q) ∧ (∀ p q, hseg G1 p ol q → hseg G2 p ol q) ∧ ∀ y ∈ rest, hp_r G2 y 3 = hp_r G y 3 := by
      intro pl ol p q G2 hpl hol ndp hdis hs hG
      have hr : ∀ y, hp_r G2 y 3 = if lst none pl = some y then some x else hp_r G1 y 3 := fun y => by
        rcases hG with ⟨e, rfl⟩ | ⟨z, e, rfl⟩
        · rw [e, if_neg (fun u => by cases u)]
        · rw [e, hp_r_sR]
          by_cases u : y = z
          · rw [if_pos u, if_pos rfl, if_pos (by rw [u])]
          · rw [if_neg u, if_neg (fun v => u (Option.some.inj v).symm)]
      refine ⟨?_, ⟨_, app_seg hs ndp (fun y _ => hr y)⟩, fun p q ho => hseg.fr _ _ _ (fun y hy => ?_) ho, fun y hy => ?_⟩
      · rcases hG with ⟨e, rfl⟩ | ⟨z, e, rfl⟩
        · exact g1
        · exact g1.sR (PC z (hpl z (lst_in e)))
      · rw [hr y, if_neg (fun u => hdis y hy (lst_in u))]
      · rw [hr y, if_neg (fun u => rP y hy (hpl y (lst_in u)))]
        exact h3 y (List.mem_cons_of_mem _ hy)
    refine blJ7_resize_235 rfl (by rw [k1 x xC]; decide) (fun b => ?_) (fun b => ?_)
    all_goals rw [ei] at b
    all_goals rw [e3]
    · have efl : fl k L (P ++ [x]) = fl k L P := by rw [fl_snoc, if_neg b]
      have efh : fh k L (P ++ [x]) = fh k L P ++ [x] := by rw [fh_snoc, if_neg b]
      have hl : lst none (fh k L P ++ [x]) = some x := by rw [lst_app]; rfl
      have dis : ∀ y ∈ fl k L P, y ∉ fh k L P := fun y hy u => (fh_mem.1 u).2 (fl_mem.1 hy).2
      refine blJ7_resize_278 (fun z hz => ?_) (fun hz => ?_)
      · have zC := PC z (hsub z (lst_in hz))
        obtain ⟨s1, s2, s3, s4⟩ := app (fh k L P) (fl k L P) p11 q' _ hsub fsub nfh dis c2 (Or.inr ⟨z, hz, rfl⟩)
        rw [if_neg (fun e => by rw [e] at hz; cases hz), ← efh] at s2
        have := kont _ p9 p11 s1 (by rw [efl]; exact ⟨q, s3 _ _ c1⟩) s2 s4
        rw [efl, efh, hl] at this
        exact blJ7_resize_290 hz (by rw [k1 z zC]; decide) (hK z zC).2.1 (blJ7_resize_297 this)
      · obtain ⟨s1, s2, s3, s4⟩ := app (fh k L P) (fl k L P) p11 q' G1 hsub fsub nfh dis c2 (Or.inl ⟨hz, rfl⟩)
        rw [if_pos (lst_nil hz), ← efh] at s2
        have := kont _ p9 (some x) s1 (by rw [efl]; exact ⟨q, s3 _ _ c1⟩) s2 s4
        rw [efl, efh, hl] at this
        exact blJ7_resize_283 (blJ7_resize_297 this)
    · have efl : fl k L (P ++ [x]) = fl k L P ++ [x] := by rw [fl_snoc, if_pos b]
      have efh : fh k L (P ++ [x]) = fh k L P := by rw [fh_snoc, if_pos b]
      have hl : lst none (fl k L P ++ [x]) = some x := by rw [lst_app]; rfl
      have dis : ∀ y ∈ fh k L P, y ∉ fl k L P := fun y hy u => (fh_mem.1 hy).2 (fl_mem.1 u).2
      refine blJ7_resize_252 (fun z hz => ?_) (fun hz => ?_)
      · have zC := PC z (fsub z (lst_in hz))
        obtain ⟨s1, s2, s3, s4⟩ := app (fl k L P) (fh k L P) p9 q _ fsub hsub nfl dis c1 (Or.inr ⟨z, hz, rfl⟩)
        rw [if_neg (fun e => by rw [e] at hz; cases hz), ← efl] at s2
        have := kont _ p9 p11 s1 s2 (by rw [efh]; exact ⟨q', s3 _ _ c2⟩) s4
        rw [efl, efh, hl] at this
        exact blJ7_resize_264 hz (by rw [k1 z zC]; decide) (hK z zC).2.1 (blJ7_resize_271 this)
      · obtain ⟨s1, s2, s3, s4⟩ := app (fl k L P) (fh k L P) p9 q G1 fsub hsub nfl dis c1 (Or.inl ⟨hz, rfl⟩)
        rw [if_pos (lst_nil hz), ← efl] at s2
        have := kont _ (some x) p11 s1 s2 (by rw [efh]; exact ⟨q', s3 _ _ c2⟩) s4
        rw [efl, efh, hl] at this
        exact blJ7_resize_257 (blJ7_resize_271 this)
  have main : ∀ (rest P : List Nat) (G1 : GH) (p9 p11 : Option Nat) (x : Nat), C = P ++ x :: rest → n3 C G G1 → (∃ q, hseg G1 p9 (fl k L P) q) → (∃ q, hseg G1 p11 (fh k L P) q) → (∀ y ∈ x :: rest, hp_r G1 y 3 = hp_r G y 3) → hch G (hp_r G x 3) rest →
      wk_V w mJ7_resize J 235 [(0, vR (some a)), (1, vR (some t)), (2, vI (nI (2 ^ k))), (4, vI x4), (6, vR (some n)), (7, vI (nI j)), (8, vR (some x)), (9, vR p9), (10, vR (lst none (fl k L P))), (11, vR p11), (12, vR (lst none (fh k L P)))] [] G1 r := by
    intro rest
    induction rest with
    | nil =>
      intro P G1 p9 p11 x e1 g1 c1 c2 h3 h4
      refine step [] P G1 p9 p11 x e1 g1 c1 c2 h3 (fun G2 p9' p11' s1 s2 s3 s4 => ?_)
      have e : hp_r G x 3 = none := h4
      rw [e]
      refine blJ7_resize_301 (fun o u => by cases u) (fun _ => ?_)
      have eP : P ++ [x] = C := e1.symm
      rw [eP] at s2 s3 ⊢
      exact fin G2 p9' p11' s1 s2 s3
    | cons y rest ih =>
      intro P G1 p9 p11 x e1 g1 c1 c2 h3 h4
      refine step (y :: rest) P G1 p9 p11 x e1 g1 c1 c2 h3 (fun G2 p9' p11' s1 s2 s3 s4 => ?_)
      have e : hp_r G x 3 = some y := h4.1
      rw [e]
      refine blJ7_resize_301 (fun _ _ => ?_) (fun u => by cases u)
      exact ih (P ++ [x]) G2 p9' p11' y (by rw [e1, List.append_assoc]; rfl) s1 s2 s3 s4 h4.2
  exact blJ7_resize_223 (main ys [] G none none h0 eC n3.id0 ⟨none, rfl⟩ ⟨none, rfl⟩ (fun _ _ => rfl) (by rw [eC] at hC; exact hC.2))
end
