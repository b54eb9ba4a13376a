/-! ArrayList -/
set_option maxRecDepth 100000
def al_E (w : WD) : Option Nat := hp_sv w "java/util/ArrayList" "DEFAULTCAPACITY_EMPTY_ELEMENTDATA"
/-- ArrayList's empty array lies where the constants are -/
def kE (w : WD) (G : GH) : Prop := ∃ o, al_E w = some o ∧ hp_kd G o = 32 ∧ hp_ln G o = 0
theorem kE.fr {w : WD} {own : Nat → Prop} {G G' : GH} (h : kE w G) (hf : cf own G G') : kE w G' := by
  obtain ⟨o, h1, h2, h3⟩ := h
  exact ⟨o, h1, hf.k h2 (by decide), (hf.ln (by rw [h2]; decide)).trans h3⟩
/-- an object that may stand in a list -/
def ob (G : GH) (x : Option Nat) : Prop := ∀ y, x = some y → hp_kd G y ≠ 0 ∧ hp_kd G y < 28
theorem ob.fr {own : Nat → Prop} {G G' : GH} {x : Option Nat} (h : ob G x) (hf : cf own G G') : ob G' x := fun y hy => by
  obtain ⟨a, b⟩ := h y hy
  exact ⟨hf.ne a, by rw [hf.kd a]; exact b⟩
/-- the list a holds the n elements e in an array of the length c, its own -/
def al (w : WD) (G : GH) (a n c : Nat) (e : Nat → Option Nat) : Prop :=
  (hp_kd G a = 22 ∧ hp_A w a ∧ hp_i G a 1 = nI n) ∧ (n ≤ c ∧ c < 2 ^ 24) ∧ ∃ o, hp_r G a 0 = some o ∧ hp_kd G o = 32 ∧ hp_ln G o = c ∧ (∀ i, i < n → hp_r G o i = e i ∧ ob G (e i)) ∧ ((c = 0 ∧ al_E w = some o) ∨ (0 < c ∧ hp_A w o ∧ ow G o a))
def al_o (G : GH) (a x : Nat) : Prop := x = a ∨ (ow G x a ∧ hp_kd G x = 32)
theorem al.kd {w : WD} {G : GH} {a n c : Nat} {e : Nat → Option Nat} (h : al w G a n c e) : hp_kd G a = 22 := h.1.1
theorem al.cg {w : WD} {G : GH} {a n c : Nat} {e e' : Nat → Option Nat} (h : al w G a n c e) (he : ∀ i, i < n → e' i = e i) : al w G a n c e' := by
  obtain ⟨h1, h2, o, o1, o2, o3, o4, o5⟩ := h
  exact ⟨h1, h2, o, o1, o2, o3, fun i hi => by rw [he i hi]; exact o4 i hi, o5⟩
theorem al.fr {w : WD} {own : Nat → Prop} {G G' : GH} {a n c : Nat} {e : Nat → Option Nat} (h : al w G a n c e) (hf : cf own G G') (h1 : ¬ own a) (h2 : ∀ x, ow G x a → hp_kd G x = 32 → ¬ own x) : al w G' a n c e := by
  obtain ⟨⟨k1, k2, k3⟩, hc, o, o1, o2, o3, o4, o5⟩ := h
  have ka : hp_kd G a ≠ 0 := by rw [k1]; decide
  have ko : hp_kd G o ≠ 0 := by rw [o2]; decide
  refine ⟨⟨hf.k k1 (by decide), k2, by rw [hf.i ka h1]; exact k3⟩, hc, o, by rw [hf.r ka h1]; exact o1, hf.k o2 (by decide), (hf.ln ko).trans o3, fun i hi => ⟨?_, (o4 i hi).2.fr hf⟩, ?_⟩
  · rcases o5 with ⟨c0, -⟩ | ⟨-, -, c3⟩
    · omega
    · rw [hf.r ko (h2 o c3 o2)]
      exact (o4 i hi).1
  · rcases o5 with c0 | ⟨c1, c2, c3⟩
    · exact Or.inl c0
    · exact Or.inr ⟨c1, c2, c3.cg (hf.l ko (h2 o c3 o2))⟩
theorem al_new {w : WD} {G : GH} {a : Nat} {e : Nat → Option Nat} (hk : hp_kd G a = 22) (hA : hp_A w a) (h0 : hp_i G a 1 = 0) (hE : kE w G) : al w (hp_sR (hp_sI G a 2 0) a 0 (al_E w)) a 0 0 e := by
  obtain ⟨o, h1, h2, h3⟩ := hE
  refine ⟨⟨hk, hA, ?_⟩, ⟨Nat.le_refl 0, by decide⟩, o, ?_, h2, h3, fun i hi => by omega, Or.inl ⟨rfl, h1⟩⟩
  · rw [hp_i_sR, hp_i_sI, if_pos rfl, if_neg (by decide)]; exact h0
  · rw [hp_r_sR, if_pos rfl, if_pos rfl]; exact h1
section
variable {w : WD} {d a n c : Nat} {e : Nat → Option Nat} {G : GH}
theorem J3_init_C {a : Nat} (hd : 1 ≤ d) : wk_C w mJ3_init d 0 [vR (some a)] G (fun v G' => v = none ∧ G' = G) (fun _ _ _ => False) := by
  refine wk_C_of (by decide) rfl (Nat.le_of_ble_eq_true rfl) ?_
  exact blJ3_init_0 hd (blJ3_init_4 ⟨rfl, rfl⟩)
theorem J4_init_C (hk : hp_kd G a = 22) (hA : hp_A w a) (hd : 2 ≤ d) : wk_C w mJ4_init d 0 [vR (some a)] G (fun v G' => v = none ∧ G' = hp_sI G a 2 0) (fun _ _ _ => False) := by
  refine wk_C_of (by decide) rfl (Nat.le_of_ble_eq_true rfl) ?_
  refine blJ4_init_0 (J3_init_C (d := 1) (Nat.le_refl 1)) hd (Nat.zero_le _) ?_ (fun _ _ _ q => absurd q id)
  rintro v G' ⟨rfl, rfl⟩
  exact blJ4_init_4 hk hA ⟨rfl, rfl⟩
theorem J5_init_C (hk : hp_kd G a = 22) (hA : hp_A w a) (hd : 3 ≤ d) : wk_C w mJ5_init d 0 [vR (some a)] G (fun v G' => v = none ∧ G' = hp_sR (hp_sI G a 2 0) a 0 (al_E w)) (fun _ _ _ => False) := by
  refine wk_C_of (by decide) rfl (Nat.le_of_ble_eq_true rfl) ?_
  refine blJ5_init_0 (J4_init_C (d := 2) hk hA (Nat.le_refl 2)) hd (Nat.zero_le _) ?_ (fun _ _ _ q => absurd q id)
  rintro v G' ⟨rfl, rfl⟩
  exact blJ5_init_4 hk hA ⟨rfl, rfl⟩
theorem J23_checkIndex_C {i : Nat} (hi : i < n) (hn : n < 2 ^ 31) (hd : 1 ≤ d) : wk_C w mJ23_checkIndex d 0 [vI (nI i), vI (nI n)] G (fun v G' => v = some (vI (nI i)) ∧ G' = G) (fun _ _ _ => False) := by
  refine wk_C_of (by decide) rfl (Nat.le_of_ble_eq_true rfl) ?_
  refine blJ23_checkIndex_0 (J19_checkIndex_C (d := 0) hi hn) hd (Nat.zero_le _) ?_ (fun _ _ _ q => absurd q id)
  rintro v G' ⟨rfl, rfl⟩
  exact blJ23_checkIndex_6 ⟨rfl, rfl⟩
theorem J5_size_C (h : al w G a n c e) : wk_C w mJ5_size d 0 [vR (some a)] G (fun v G' => v = some (vI (nI n)) ∧ G' = G) (fun _ _ _ => False) := by
  refine wk_C_of (by decide) rfl (Nat.le_of_ble_eq_true rfl) ?_
  exact blJ5_size_0 h.1.1 ⟨by rw [h.1.2.2], rfl⟩
theorem J5_elementData_C {i : Nat} (h : al w G a n c e) (hi : i < n) : wk_C w mJ5_elementData d 0 [vR (some a), vI (nI i)] G (fun v G' => v = some (vR (e i)) ∧ G' = G) (fun _ _ _ => False) := by
  obtain ⟨⟨k1, k2, k3⟩, ⟨hc1, hc2⟩, o, o1, o2, o3, o4, o5⟩ := h
  refine wk_C_of (by decide) rfl (Nat.le_of_ble_eq_true rfl) ?_
  refine blJ5_elementData_0 k1 o1 (by rw [o3]; exact vp_in_nI (by omega) (by omega)) (by rw [o2]; decide) ⟨?_, rfl⟩
  rw [nI_clamp (by omega), (o4 i hi).1]
theorem J5_get_C {i : Nat} (h : al w G a n c e) (hi : i < n) (hd : 2 ≤ d) : wk_C w mJ5_get d 0 [vR (some a), vI (nI i)] G (fun v G' => v = some (vR (e i)) ∧ G' = G) (fun _ _ _ => False) := by
  have hn : n < 2 ^ 31 := by have := h.2.1; omega
  refine wk_C_of (by decide) rfl (Nat.le_of_ble_eq_true rfl) ?_
  refine blJ5_get_0 h.1.1 (by rw [h.1.2.2]; exact J23_checkIndex_C (d := 1) hi hn (Nat.le_refl 1)) hd (Nat.zero_le _) ?_ (fun _ _ _ q => absurd q id)
  rintro v G' ⟨rfl, rfl⟩
  refine blJ5_get_8 h.1.1 (J5_elementData_C (d := 1) h hi) hd (Nat.zero_le _) ?_ (fun _ _ _ q => absurd q id)
  rintro v G' ⟨rfl, rfl⟩
  exact blJ5_get_14 ⟨rfl, rfl⟩
/-- the capacity behind an add, what it costs -/
def al_c (n c : Nat) : Nat := if n < c then c else if c = 0 then 10 else c + max 1 (c / 2)
def al_b (n c : Nat) : Nat := if n < c then 0 else 1 + al_c n c / 12
theorem al.sI {k : Nat} {v : Int32} (h : al w G a n c e) (hk : k ≠ 1) : al w (hp_sI G a k v) a n c e := by
  obtain ⟨⟨k1, k2, k3⟩, hc, o, o1, o2, o3, o4, o5⟩ := h
  exact ⟨⟨k1, k2, by rw [hp_i_sI, if_pos rfl, if_neg (Ne.symm hk)]; exact k3⟩, hc, o, o1, o2, o3, o4, o5⟩
theorem al.push {o : Nat} {x : Option Nat} (h : al w G a n c e) (hn : n < c) (ho : hp_r G a 0 = some o) (hx : ob G x) : al w (hp_sI (hp_sR G o n x) a 1 (nI n + 1)) a (n + 1) c (fun i => if i = n then x else e i) := by
  obtain ⟨⟨k1, k2, k3⟩, hc, o', o1, o2, o3, o4, o5⟩ := h
  have eo : o' = o := by rw [ho] at o1; exact (Option.some.inj o1).symm
  subst eo
  have hne : a ≠ o' := fun q => by rw [q, o2] at k1; cases k1
  refine ⟨⟨k1, k2, ?_⟩, ⟨by omega, hc.2⟩, o', ?_, o2, o3, fun i hi => ⟨?_, ?_⟩, o5⟩
  · rw [hp_i_sI, if_pos rfl, if_pos rfl, nI_1]
  · rw [hp_r_sI, hp_r_sR, if_neg hne]; exact o1
  · rw [hp_r_sI, hp_r_sR, if_pos rfl]
    show (if i = n then x else hp_r G o' i) = (if i = n then x else e i)
    by_cases q : i = n
    · rw [if_pos q, if_pos q]
    · rw [if_neg q, if_neg q]; exact (o4 i (by omega)).1
  · show ob G (if i = n then x else e i)
    by_cases q : i = n
    · rw [if_pos q]; exact hx
    · rw [if_neg q]; exact (o4 i (by omega)).2
theorem J15_newLength_C {c m p : Nat} (hc : c < 2 ^ 24) (hm : 1 ≤ m ∧ m < 2 ^ 24) (hp : p < 2 ^ 24) (hd : 1 ≤ d) : wk_C w mJ15_newLength d 0 [vI (nI c), vI (nI m), vI (nI p)] G (fun v G' => v = some (vI (nI (c + max m p))) ∧ G' = G) (fun _ _ _ => False) := by
  refine wk_C_of (by decide) rfl (Nat.le_of_ble_eq_true rfl) ?_
  refine blJ15_newLength_0 hd ?_
  have e : (if nI m < nI p then nI p else nI m) = nI (max m p) := by
    by_cases q : m < p
    · rw [if_pos (nI_lt q (by omega)), Nat.max_eq_right (by omega)]
    · rw [if_neg (nI_nlt (by omega) (by omega)), Nat.max_eq_left (by omega)]
  rw [e]
  have hx : max m p < 2 ^ 24 ∧ 1 ≤ max m p := by omega
  refine blJ15_newLength_6 (fun q => ?_) (fun _ => ?_)
  · rw [nI_add] at q
    exact absurd q (nI_nle (by omega) (by omega))
  · rw [nI_add]
    refine blJ15_newLength_13 (fun q => ?_) (fun _ => ?_)
    · exact absurd q (nI_nlt (a := 2147483639) (b := c + max m p) (by omega) (by decide))
    · exact blJ15_newLength_19 ⟨rfl, rfl⟩
end
