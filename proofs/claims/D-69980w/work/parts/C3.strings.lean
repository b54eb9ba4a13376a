/-! Strings by their contents; equals, hashCode -/
set_option maxRecDepth 100000
/-- at a lies a String of the ASCII characters l -/
def hp_sc (G : GH) (a : Nat) (l : List Nat) : Prop := hp_str G a l.length (fun i => l.getD i 0)
theorem ls_get {α : Type} {l : List α} {i : Nat} {d : α} (h : i < l.length) : l.getD i d = l[i] := by
  rw [List.getD_eq_getElem?_getD, List.getElem?_eq_getElem h]
  rfl
theorem ls_ext {l m : List Nat} (h : l.length = m.length) (h2 : ∀ u, u < l.length → l.getD u 0 = m.getD u 0) : l = m := by
  refine List.ext_getElem h fun i h1 h3 => ?_
  have := h2 i h1
  rw [ls_get h1, ls_get h3] at this
  exact this
def hsh (l : List Nat) : Int32 := l.foldl (fun h c => 31 * h + nI c) 0
/-- a String whose hash, if it is noted, is right -/
def hv (G : GH) (a : Nat) (l : List Nat) : Prop := (hp_i G a 2 = 0 ∨ hp_i G a 2 = hsh l) ∧ (hp_i G a 3 = 0 ∨ hsh l = 0)
/-- a String of the component's own making -/
def st (w : WD) (G : GH) (a : Nat) (l : List Nat) : Prop := hp_sc G a l ∧ hp_A w a ∧ hv G a l
theorem hp_str.fr {own : Nat → Prop} {G G' : GH} {a n : Nat} {f : Nat → Nat} (h : hp_str G a n f) (hf : cf own G G') (h1 : hp_r G' a = hp_r G a ∧ hp_i G' a 1 = hp_i G a 1) (h2 : ∀ o, hp_r G a 0 = some o → ¬ own o) : hp_str G' a n f := by
  obtain ⟨k1, k2, k3, k4, o, o1, o2, o3, o4⟩ := h
  have ko : hp_kd G o ≠ 0 := by rw [o2]; decide
  refine ⟨hf.k k1 (by decide), by rw [h1.2]; exact k2, k3, k4, o, by rw [h1.1]; exact o1, hf.k o2 (by decide), (hf.ln ko).trans o3, fun i hi => ?_⟩
  rw [hf.i ko (h2 o o1)]
  exact o4 i hi
theorem hp_sc.uq {G : GH} {a : Nat} {l m : List Nat} (h : hp_sc G a l) (h2 : hp_sc G a m) : l = m := by
  obtain ⟨-, -, k3, k4, o, o1, -, o3, o4⟩ := h
  obtain ⟨-, -, j3, j4, p, p1, -, p3, p4⟩ := h2
  have e : p = o := by rw [o1] at p1; exact (Option.some.inj p1).symm
  subst e
  have hl : l.length = m.length := o3.symm.trans p3
  refine ls_ext hl fun u hu => ?_
  have a1 : l.getD u 0 < 128 := k4 u hu
  have a2 : m.getD u 0 < 128 := j4 u (by omega)
  have := (o4 u hu).symm.trans (p4 u (by omega))
  exact (nI_eq (by omega) (by omega)).1 this
section
variable {w : WD} {d : Nat} {G : GH}
theorem J18_equals_C {o1 o2 : Nat} {l1 l2 : List Nat} (k1 : hp_kd G o1 = 30) (k2 : hp_kd G o2 = 30) (n1 : hp_ln G o1 = l1.length) (n2 : hp_ln G o2 = l2.length) (hl1 : l1.length < 2 ^ 31) (hl2 : l2.length < 2 ^ 31)
    (e1 : ∀ i, i < l1.length → hp_i G o1 i = nI (l1.getD i 0)) (e2 : ∀ i, i < l2.length → hp_i G o2 i = nI (l2.getD i 0)) (b1 : ∀ i, i < l1.length → l1.getD i 0 < 128) (b2 : ∀ i, i < l2.length → l2.getD i 0 < 128) :
    wk_C w mJ18_equals d 0 [vR (some o1), vR (some o2)] G (fun v G' => v = some (vI (if l1 = l2 then 1 else 0)) ∧ G' = G) (fun _ _ _ => False) := by
  refine wk_C_of (by decide) rfl (Nat.le_of_ble_eq_true rfl) ?_
  refine blJ18_equals_0 rfl (by rw [k1]; decide) rfl (by rw [k2]; decide) (fun q => ?_) (fun q => ?_)
  · exact blJ18_equals_34 ⟨by rw [if_neg (fun u => q (by rw [n1, n2, u]))], rfl⟩
  · have hn : l1.length = l2.length := by
      rw [n1, n2] at q
      exact (nI_eq hl1 hl2).1 q
    refine blJ18_equals_7 ?_
    have loop : ∀ k i, i + k = l1.length → (∀ u, u < i → l1.getD u 0 = l2.getD u 0) → wk_V w mJ18_equals (d, 0, (fun v G' => v = some (vI (if l1 = l2 then 1 else 0)) ∧ G' = G), (fun _ _ _ => False), hp_cs G, hp_ss G) 9 [(0, vR (some o1)), (1, vR (some o2)), (2, vI (nI i))] [] G 0 := by
      intro k
      induction k with
      | zero =>
        intro i hi hu
        refine blJ18_equals_9 rfl (by rw [k1]; decide) (fun _ => blJ18_equals_32 ⟨by rw [if_pos (ls_ext hn (fun u hu' => hu u (by omega)))], rfl⟩) (fun q => absurd ?_ q)
        rw [n1]
        exact nI_le (by omega) (by omega)
      | succ k ih =>
        intro i hi hu
        refine blJ18_equals_9 rfl (by rw [k1]; decide) (fun q => ?_) (fun _ => ?_)
        · rw [n1] at q
          exact absurd q (nI_ge (by omega) (by omega))
        · refine blJ18_equals_15 rfl (by rw [n1]; exact vp_in_nI (by omega) hl1) k1 rfl (by rw [n2]; exact vp_in_nI (by omega) hl2) k2 (fun q => ?_) (fun q => ?_)
          · rw [nI_clamp (by omega), e1 i (by omega), e2 i (by omega)] at q
            have a1 := b1 i (by omega)
            have a2 := b2 i (by omega)
            have e := (nI_eq (by omega) (by omega)).1 q
            refine blJ18_equals_26 ?_
            rw [nI_1]
            refine ih (i + 1) (by omega) (fun u hu' => ?_)
            rcases Nat.lt_or_ge u i with h | h
            · exact hu u h
            · rw [show u = i by omega]; exact e
          · rw [nI_clamp (by omega), e1 i (by omega), e2 i (by omega)] at q
            exact blJ18_equals_24 ⟨by rw [if_neg (fun u => q (by rw [u]))], rfl⟩
    exact loop l1.length 0 (by omega) (fun u hu => by omega)
theorem J13_equals_C {a b : Nat} {l1 l2 : List Nat} (h1 : hp_sc G a l1) (h2 : hp_sc G b l2) (hd : 1 ≤ d) : wk_C w mJ13_equals d 0 [vR (some a), vR (some b)] G (fun v G' => v = some (vI (if l1 = l2 then 1 else 0)) ∧ G' = G) (fun _ _ _ => False) := by
  obtain ⟨k1, k2, k3, k4, o, o1, o2, o3, o4⟩ := id h1
  obtain ⟨j1, j2, j3, j4, p, p1, p2, p3, p4⟩ := id h2
  refine wk_C_of (by decide) rfl (Nat.le_of_ble_eq_true rfl) ?_
  refine blJ13_equals_0 (fun _ => ?_) (fun q => ?_)
  · refine blJ13_equals_7 (v1 := 1) (Or.inr ⟨b, rfl, by rw [j1]; decide, by rw [j1]; decide, Or.inl ⟨rfl, by rw [j1]; exact Or.inl rfl⟩⟩) (fun q => absurd q (by decide)) (fun _ => ?_)
    refine blJ13_equals_14 (fun y hy => ?_) (fun q => absurd q (by decide)) (fun _ => ?_)
    · cases hy
      rw [j1]
      exact ⟨by decide, by decide, Or.inl rfl⟩
    · refine blJ13_equals_25 k1 rfl j1 (fun q => absurd (k2.trans j2.symm) q) (fun _ => ?_)
      refine blJ13_equals_36 k1 rfl j1 (by rw [o1, p1]; exact J18_equals_C (d := 0) o2 p2 o3 p3 k3 j3 o4 p4 k4 j4) hd (Nat.zero_le _) ?_ (fun _ _ _ q => absurd q id)
      rintro v G' ⟨rfl, rfl⟩
      refine blJ13_equals_47 (fun q => ?_) (fun q => ?_)
      · have hne : ¬ l1 = l2 := lx_b0.1 q
        exact blJ13_equals_54 (blJ13_equals_55 rfl ⟨by rw [if_neg hne], rfl⟩)
      · have he : l1 = l2 := lx_b1 q
        exact blJ13_equals_50 (blJ13_equals_55 rfl ⟨by rw [if_pos he], rfl⟩)
  · have e : a = b := Option.some.inj q
    subst e
    have el := h1.uq h2
    exact blJ13_equals_5 ⟨by rw [if_pos el], rfl⟩
theorem hsh_app {l : List Nat} {c : Nat} : hsh (l ++ [c]) = 31 * hsh l + nI c := by
  unfold hsh
  rw [List.foldl_append]
  rfl
theorem ls_take {l : List Nat} {i : Nat} (h : i < l.length) : l.take (i + 1) = l.take i ++ [l.getD i 0] := by
  rw [ls_get h, List.take_succ, List.getElem?_eq_getElem h]
  rfl
theorem J15_signedHashCode_C {o : Nat} {l : List Nat} (k1 : hp_kd G o = 30) (n1 : hp_ln G o = l.length) (hl : l.length < 2 ^ 31) (e1 : ∀ i, i < l.length → hp_i G o i = nI (l.getD i 0)) (b1 : ∀ i, i < l.length → l.getD i 0 < 128) :
    wk_C w mJ15_signedHashCode d 0 [vI 0, vR (some o), vI 0, vI (nI l.length)] G (fun v G' => v = some (vI (hsh l)) ∧ G' = G) (fun _ _ _ => False) := by
  refine wk_C_of (by decide) rfl (Nat.le_of_ble_eq_true rfl) ?_
  refine blJ15_signedHashCode_0 ?_
  rw [Int32.zero_add]
  have loop : ∀ k i, i + k = l.length → wk_V w mJ15_signedHashCode (d, 0, (fun v G' => v = some (vI (hsh l)) ∧ G' = G), (fun _ _ _ => False), hp_cs G, hp_ss G) 8 [(0, vI (hsh (l.take i))), (1, vR (some o)), (4, vI (nI l.length)), (5, vI (nI i))] [] G 0 := by
    intro k
    induction k with
    | zero =>
      intro i hi
      refine blJ15_signedHashCode_8 (fun _ => blJ15_signedHashCode_35 ⟨by rw [List.take_of_length_le (by omega)], rfl⟩) (fun q => absurd ?_ q)
      exact nI_le (by omega) (by omega)
    | succ k ih =>
      intro i hi
      refine blJ15_signedHashCode_8 (fun q => absurd q (nI_ge (by omega) hl)) (fun _ => ?_)
      refine blJ15_signedHashCode_15 rfl (by rw [n1]; exact vp_in_nI (by omega) hl) k1 ?_
      rw [nI_clamp (by omega), e1 i (by omega), lx_and255 _ (b1 i (by omega)), nI_1, ← hsh_app, ← ls_take (by omega)]
      exact ih (i + 1) (by omega)
  exact loop l.length 0 (by omega)
theorem J15_vectorizedHashCode_C {o : Nat} {l : List Nat} (k1 : hp_kd G o = 30) (n1 : hp_ln G o = l.length) (hl : l.length < 2 ^ 31) (e1 : ∀ i, i < l.length → hp_i G o i = nI (l.getD i 0)) (b1 : ∀ i, i < l.length → l.getD i 0 < 128) (hd : 1 ≤ d) :
    wk_C w mJ15_vectorizedHashCode d 0 [vR (some o), vI 0, vI (nI l.length), vI 0, vI 4] G (fun v G' => v = some (vI (hsh l)) ∧ G' = G) (fun _ _ _ => False) := by
  refine wk_C_of (by decide) rfl (Nat.le_of_ble_eq_true rfl) ?_
  refine blJ15_vectorizedHashCode_0 (fun _ => ?_) (fun q => absurd q (by decide)) (fun q => absurd q (by decide)) (fun q => absurd q (by decide)) (fun q => absurd q (by decide)) (fun q => absurd q (by decide)) (fun q => absurd q (by decide)) (fun q _ _ _ _ _ _ => absurd rfl q)
  refine blJ15_vectorizedHashCode_44 rfl k1 (J15_signedHashCode_C (d := 0) k1 n1 hl e1 b1) hd (Nat.zero_le _) ?_ (fun _ _ _ q => absurd q id)
  rintro v G' ⟨rfl, rfl⟩
  exact blJ15_vectorizedHashCode_54 (blJ15_vectorizedHashCode_157 ⟨rfl, rfl⟩)
theorem J18_hashCode_C {o : Nat} {l : List Nat} (k1 : hp_kd G o = 30) (n1 : hp_ln G o = l.length) (hl : l.length < 2 ^ 31) (e1 : ∀ i, i < l.length → hp_i G o i = nI (l.getD i 0)) (b1 : ∀ i, i < l.length → l.getD i 0 < 128) (hd : 2 ≤ d) :
    wk_C w mJ18_hashCode d 0 [vR (some o)] G (fun v G' => v = some (vI (hsh l)) ∧ G' = G) (fun _ _ _ => False) := by
  refine wk_C_of (by decide) rfl (Nat.le_of_ble_eq_true rfl) ?_
  refine blJ18_hashCode_0 rfl (by rw [k1]; decide) (fun q => ?_) (fun q => ?_) (fun _ _ => ?_)
  · rw [n1] at q
    have h0 : l.length = 0 := (nI_eq (b := 0) hl (by decide)).1 q
    have e : l = [] := List.eq_nil_of_length_eq_zero h0
    subst e
    exact blJ18_hashCode_28 (blJ18_hashCode_51 ⟨rfl, rfl⟩)
  · rw [n1] at q
    have h0 : l.length = 1 := (nI_eq (b := 1) hl (by decide)).1 q
    refine blJ18_hashCode_32 rfl (by rw [n1, h0]; exact vp_in_nI (n := 0) (by decide) (by decide)) k1 (blJ18_hashCode_51 ⟨?_, rfl⟩)
    have c0 : (0 : Int32).toNatClampNeg = 0 := rfl
    rw [c0, e1 0 (by omega), lx_and255 _ (b1 0 (by omega))]
    match l, h0 with
    | [c], _ =>
      show some (vI (nI c)) = some (vI (31 * 0 + nI c))
      rw [Int32.mul_zero, Int32.zero_add]
  · refine blJ18_hashCode_42 rfl (by rw [k1]; decide) (by rw [n1]; exact J15_vectorizedHashCode_C (d := 1) k1 n1 hl e1 b1 (Nat.le_refl 1)) hd (Nat.zero_le _) ?_ (fun _ _ _ q => absurd q id)
    rintro v G' ⟨rfl, rfl⟩
    exact blJ18_hashCode_51 ⟨rfl, rfl⟩
theorem J13_hashCode_C {a : Nat} {l : List Nat} (h : st w G a l) (hd : 3 ≤ d) : wk_C w mJ13_hashCode d 0 [vR (some a)] G (fun v G' => v = some (vI (hsh l)) ∧ st w G' a l ∧ cf (fun x => x = a) G G') (fun _ _ _ => False) := by
  obtain ⟨h1, hA, hv1, hv2⟩ := id h
  obtain ⟨k1, k2, k3, k4, o, o1, o2, o3, o4⟩ := id h1
  have hne : o ≠ a := fun u => by rw [u, k1] at o2; cases o2
  refine wk_C_of (by decide) rfl (Nat.le_of_ble_eq_true rfl) ?_
  refine blJ13_hashCode_0 k1 (fun q => ?_) (fun q => ?_)
  · exact blJ13_hashCode_58 ⟨by rw [hv1.resolve_left q], h, cf.rf⟩
  · refine blJ13_hashCode_9 k1 (fun q3 => ?_) (fun q3 => ?_)
    · have e0 := hv2.resolve_left q3
      exact blJ13_hashCode_58 ⟨by rw [q, e0], h, cf.rf⟩
    · refine blJ13_hashCode_16 k1 (J13_isLatin1_C (d := 0) k1 k2) (Nat.le_trans (by decide) hd) (Nat.zero_le _) ?_ (fun _ _ _ q => absurd q id)
      rintro v G' ⟨rfl, rfl⟩
      refine blJ13_hashCode_20 (fun q => absurd q (by decide)) (fun _ => ?_)
      refine blJ13_hashCode_23 k1 (by rw [o1]; exact J18_hashCode_C (d := 2) o2 o3 k3 o4 k4 (Nat.le_refl 2)) hd (Nat.zero_le _) ?_ (fun _ _ _ q => absurd q id)
      rintro v G' ⟨rfl, rfl⟩
      refine blJ13_hashCode_30 ?_
      refine blJ13_hashCode_40 (fun qn => ?_) (fun q0 => ?_)
      · have hf : cf (fun x => x = a) G' (hp_sI G' a 2 (hsh l)) := cf.rf.sI (Or.inl rfl)
        refine blJ13_hashCode_53 k1 hA (blJ13_hashCode_58 ⟨rfl, ⟨?_, hA, ?_, ?_⟩, hf⟩)
        · refine h1.fr hf ⟨rfl, ?_⟩ (fun o' u e => ?_)
          · rw [hp_i_sI, if_pos rfl, if_neg (by decide)]
          · rw [o1] at u; cases u; exact hne e
        · rw [hp_i_sI, if_pos rfl, if_pos rfl]; exact Or.inr rfl
        · rw [hp_i_sI, if_pos rfl, if_neg (by decide)]; exact hv2
      · have hf : cf (fun x => x = a) G' (hp_sI G' a 3 1) := cf.rf.sI (Or.inl rfl)
        refine blJ13_hashCode_45 k1 hA (blJ13_hashCode_58 ⟨rfl, ⟨?_, hA, ?_, ?_⟩, hf⟩)
        · refine h1.fr hf ⟨rfl, ?_⟩ (fun o' u e => ?_)
          · rw [hp_i_sI, if_pos rfl, if_neg (by decide)]
          · rw [o1] at u; cases u; exact hne e
        · rw [hp_i_sI, if_pos rfl, if_neg (by decide)]; exact Or.inl q
        · exact Or.inr q0
end
