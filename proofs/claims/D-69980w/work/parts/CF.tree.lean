/-! trees of words: where a word lies; how words are compared -/
set_option maxRecDepth 100000
def cmpZ : List Nat → List Nat → Int
  | [], m => 0 - (m.length : Int)
  | l, [] => (l.length : Int) - 0
  | a :: l, b :: m => if a = b then cmpZ l m else (a : Int) - b
theorem cmpZ_nil {l : List Nat} : cmpZ l [] = (l.length : Int) := by
  cases l with
  | nil => rfl
  | cons a l => show ((a :: l).length : Int) - 0 = _; omega
theorem cmpZ_anti : ∀ l m : List Nat, cmpZ m l = - cmpZ l m
  | [], m => by rw [cmpZ_nil]; show (m.length : Int) = -(0 - (m.length : Int)); omega
  | a :: l, [] => by rw [cmpZ_nil]; show 0 - ((a :: l).length : Int) = _; omega
  | a :: l, b :: m => by
    show (if b = a then cmpZ m l else (b : Int) - a) = - (if a = b then cmpZ l m else (a : Int) - b)
    by_cases e : a = b
    · rw [if_pos e, if_pos e.symm]; exact cmpZ_anti l m
    · rw [if_neg e, if_neg (Ne.symm e)]; omega
theorem cmpZ_eq : ∀ l m : List Nat, cmpZ l m = 0 → l = m
  | [], [], _ => rfl
  | [], b :: m, h => by
    have : 0 - (((b :: m).length : Nat) : Int) = 0 := h
    rw [List.length_cons] at this
    omega
  | a :: l, [], h => by
    rw [cmpZ_nil, List.length_cons] at h
    omega
  | a :: l, b :: m, h => by
    have h' : (if a = b then cmpZ l m else (a : Int) - b) = 0 := h
    by_cases e : a = b
    · rw [if_pos e] at h'
      rw [e, cmpZ_eq l m h']
    · rw [if_neg e] at h'
      omega
theorem cmpZ_tr : ∀ l m k : List Nat, cmpZ l m < 0 → cmpZ m k < 0 → cmpZ l k < 0
  | [], m, k, h1, h2 => by
    have h1' : 0 - (m.length : Int) < 0 := h1
    show 0 - (k.length : Int) < 0
    cases k with
    | nil => rw [cmpZ_nil] at h2; omega
    | cons c k => rw [List.length_cons]; omega
  | a :: l, [], k, h1, h2 => by rw [cmpZ_nil] at h1; omega
  | a :: l, b :: m, [], h1, h2 => by rw [cmpZ_nil] at h2; omega
  | a :: l, b :: m, c :: k, h1, h2 => by
    have h1' : (if a = b then cmpZ l m else (a : Int) - b) < 0 := h1
    have h2' : (if b = c then cmpZ m k else (b : Int) - c) < 0 := h2
    show (if a = c then cmpZ l k else (a : Int) - c) < 0
    by_cases e1 : a = b
    · rw [if_pos e1] at h1'
      by_cases e2 : b = c
      · rw [if_pos e2] at h2'
        rw [if_pos (e1.trans e2)]
        exact cmpZ_tr l m k h1' h2'
      · rw [if_neg e2] at h2'
        rw [if_neg (by rw [e1]; exact e2)]
        omega
    · rw [if_neg e1] at h1'
      by_cases e2 : b = c
      · rw [if_neg (by rw [← e2]; exact e1)]
        omega
      · rw [if_neg e2] at h2'
        rw [if_neg (by omega)]
        omega
/-- a word that may stand in a map -/
def gw (l : List Nat) : Prop := l.length < 2 ^ 31 ∧ ∀ i, i < l.length → l.getD i 0 < 128
theorem st.gw {w : WD} {G : GH} {a : Nat} {l : List Nat} (h : st w G a l) : gw l := ⟨h.1.2.2.1, h.1.2.2.2.1⟩
theorem nI_subZ {a b : Nat} (ha : a < 2 ^ 31) (hb : b < 2 ^ 31) : (nI a - nI b).toInt = (a : Int) - b := by
  rw [Int32.toInt_sub, nI_toInt ha, nI_toInt hb]
  exact Int.bmod_eq_of_le (by omega) (by omega)
theorem gw_tl {a : Nat} {l : List Nat} (h : gw (a :: l)) : a < 128 ∧ gw l := by
  obtain ⟨h1, h2⟩ := h
  rw [List.length_cons] at h1
  refine ⟨h2 0 (by rw [List.length_cons]; omega), by omega, fun i hi => ?_⟩
  have := h2 (i + 1) (by rw [List.length_cons]; omega)
  exact this
theorem cmpI_Z : ∀ l m : List Nat, gw l → gw m → (cmpI l m).toInt = cmpZ l m
  | [], m, _, h => nI_subZ (by decide) h.1
  | a :: l, [], h, _ => nI_subZ h.1 (by decide)
  | a :: l, b :: m, h, h2 => by
    obtain ⟨a1, a2⟩ := gw_tl h
    obtain ⟨b1, b2⟩ := gw_tl h2
    show (if a = b then cmpI l m else nI a - nI b).toInt = (if a = b then cmpZ l m else (a : Int) - b)
    by_cases e : a = b
    · rw [if_pos e, if_pos e]; exact cmpI_Z l m a2 b2
    · rw [if_neg e, if_neg e]; exact nI_subZ (by omega) (by omega)
theorem cmpI_lt {l m : List Nat} (h : gw l) (h2 : gw m) : cmpI l m < 0 ↔ cmpZ l m < 0 := by
  rw [Int32.lt_iff_toInt_lt, cmpI_Z l m h h2]
  rfl
theorem cmpI_0 {l m : List Nat} (h : gw l) (h2 : gw m) (e : cmpI l m = 0) : l = m := by
  refine cmpZ_eq l m ?_
  rw [← cmpI_Z l m h h2, e]
  rfl
theorem kl_irr {l : List Nat} (h : gw l) : ¬ kl l l := by
  rintro (u | ⟨-, u⟩)
  · rw [Int32.lt_iff_toInt_lt] at u; omega
  · rw [cmpI_lt h h] at u
    have := cmpZ_anti l l
    omega
theorem kl_tr {l m k : List Nat} (h1 : gw l) (h2 : gw m) (h3 : gw k) (a : kl l m) (b : kl m k) : kl l k := by
  rcases a with a | ⟨a, a2⟩
  · rcases b with b | ⟨b, -⟩
    · exact Or.inl (Int32.lt_trans a b)
    · exact Or.inl (by rw [← b]; exact a)
  · rcases b with b | ⟨b, b2⟩
    · exact Or.inl (by rw [a]; exact b)
    · refine Or.inr ⟨a.trans b, ?_⟩
      rw [cmpI_lt h1 h3]
      rw [cmpI_lt h1 h2] at a2
      rw [cmpI_lt h2 h3] at b2
      exact cmpZ_tr l m k a2 b2
/-- two words are the same, or one comes first -/
theorem kl_tri {l m : List Nat} (h1 : gw l) (h2 : gw m) : l = m ∨ kl l m ∨ kl m l := by
  have tri : hx l < hx m ∨ hx l = hx m ∨ hx m < hx l := by
    rw [Int32.lt_iff_toInt_lt, Int32.lt_iff_toInt_lt]
    rcases Int.lt_trichotomy (hx l).toInt (hx m).toInt with u | u | u
    · exact Or.inl u
    · exact Or.inr (Or.inl (Int32.toInt_inj.1 u))
    · exact Or.inr (Or.inr u)
  rcases tri with u | u | u
  · exact Or.inr (Or.inl (Or.inl u))
  · rcases Int.lt_trichotomy (cmpZ l m) 0 with v | v | v
    · exact Or.inr (Or.inl (Or.inr ⟨u, (cmpI_lt h1 h2).2 v⟩))
    · exact Or.inl (cmpZ_eq l m v)
    · refine Or.inr (Or.inr (Or.inr ⟨u.symm, (cmpI_lt h2 h1).2 ?_⟩))
      rw [cmpZ_anti l m]
      omega
  · exact Or.inr (Or.inr (Or.inl u))
/-! the way up -/
def tup (G : GH) : Nat → Nat → Option Nat
  | 0, a => some a
  | n + 1, a => match hp_r G a 4 with
    | none => none
    | some b => tup G n b
theorem tup_snoc {G : GH} {a : Nat} : ∀ n z, tup G (n + 1) z = some a → ∃ b, tup G n z = some b ∧ hp_r G b 4 = some a := by
  intro n
  induction n with
  | zero =>
    intro z h
    refine ⟨z, rfl, ?_⟩
    have h' : (match hp_r G z 4 with | none => none | some b => some b) = some a := h
    cases e : hp_r G z 4 with
    | none => rw [e] at h'; cases h'
    | some b => rw [e] at h'; exact h'
  | succ n ih =>
    intro z h
    have h' : (match hp_r G z 4 with | none => none | some b => tup G (n + 1) b) = some a := h
    cases e : hp_r G z 4 with
    | none => rw [e] at h'; cases h'
    | some b =>
      rw [e] at h'
      obtain ⟨c, c1, c2⟩ := ih b h'
      refine ⟨c, ?_, c2⟩
      show (match hp_r G z 4 with | none => none | some b => tup G n b) = some c
      rw [e]
      exact c1
section
variable {G : GH} {N : List Nat} {r : Nat} {ps lo hi : Nat → Nat}
/-- a parent's range is wider -/
theorem tn.par {a b : Nat} (ha : tn G N ps lo hi a) (hT : ∀ a ∈ N, tn G N ps lo hi a) (h : hp_r G a 4 = some b) : b ∈ N ∧ lo b ≤ lo a ∧ hi a ≤ hi b ∧ (lo b < lo a ∨ hi a < hi b) ∧ ((hp_r G b 5 = some a ∧ lo a = lo b ∧ hi a = ps b) ∨ (hp_r G b 6 = some a ∧ lo a = ps b ∧ hi a = hi b)) := by
  obtain ⟨hb, hc⟩ := ha.2.2.2.2 b h
  have tb := hT b hb
  have hw := tb.2.1
  rcases hc with hc | hc
  · obtain ⟨-, -, e1, e2⟩ := tb.2.2.1 a hc
    exact ⟨hb, by omega, by omega, by omega, Or.inl ⟨hc, e1, e2⟩⟩
  · obtain ⟨-, -, e1, e2⟩ := tb.2.2.2.1 a hc
    exact ⟨hb, by omega, by omega, by omega, Or.inr ⟨hc, e1, e2⟩⟩
theorem tr_bound (hi : Nat → Nat) : ∀ N : List Nat, ∃ W, ∀ a ∈ N, hi a ≤ W
  | [] => ⟨0, fun a h => by cases h⟩
  | x :: xs => by
    obtain ⟨W, h⟩ := tr_bound hi xs
    refine ⟨max W (hi x), fun a ha => ?_⟩
    rcases List.mem_cons.1 ha with e | e
    · rw [e]; omega
    · have := h a e; omega
/-- everybody comes up to the root -/
theorem tr.top (h : tr G N r ps lo hi) {W : Nat} (hW : ∀ a ∈ N, hi a ≤ W) : ∀ f z, z ∈ N → W ≤ hi z - lo z + f → ∃ n, tup G n z = some r := by
  intro f
  induction f with
  | zero =>
    intro z hz hf
    have hw := (h.2 z hz).2.1
    cases e : hp_r G z 4 with
    | none => exact ⟨0, by rw [h.1.2.2 z hz e]; rfl⟩
    | some b =>
      obtain ⟨b1, b2, b3, b4, -⟩ := (h.2 z hz).par h.2 e
      have := hW b b1
      omega
  | succ f ih =>
    intro z hz hf
    cases e : hp_r G z 4 with
    | none => exact ⟨0, by rw [h.1.2.2 z hz e]; rfl⟩
    | some b =>
      have hw := (h.2 z hz).2.1
      obtain ⟨b1, b2, b3, b4, -⟩ := (h.2 z hz).par h.2 e
      obtain ⟨n, hn⟩ := ih b b1 (by omega)
      refine ⟨n + 1, ?_⟩
      show (match hp_r G z 4 with | none => none | some b => tup G n b) = some r
      rw [e]
      exact hn
/-- upward ranges grow -/
theorem tr.up (h : tr G N r ps lo hi) {p : Nat} : ∀ n z, z ∈ N → tup G n z = some p → p ∈ N ∧ lo p ≤ lo z ∧ hi z ≤ hi p := by
  intro n
  induction n with
  | zero =>
    intro z hz e
    have e' : z = p := Option.some.inj e
    subst e'
    exact ⟨hz, Nat.le_refl _, Nat.le_refl _⟩
  | succ n ih =>
    intro z hz e
    have e' : (match hp_r G z 4 with | none => none | some b => tup G n b) = some p := e
    cases e1 : hp_r G z 4 with
    | none => rw [e1] at e'; cases e'
    | some b =>
      rw [e1] at e'
      obtain ⟨b1, b2, b3, b4, -⟩ := (h.2 z hz).par h.2 e1
      obtain ⟨c1, c2, c3⟩ := ih b b1 e'
      exact ⟨c1, by omega, by omega⟩
/-- below p, or p itself: a child of p on the way -/
theorem tr.via (h : tr G N r ps lo hi) {p z n : Nat} (hz : z ∈ N) (e : tup G n z = some p) : z = p ∨ ∃ b, hp_r G b 4 = some p ∧ b ∈ N ∧ lo b ≤ lo z ∧ hi z ≤ hi b := by
  cases n with
  | zero => exact Or.inl (Option.some.inj e)
  | succ n =>
    obtain ⟨b, b1, b2⟩ := tup_snoc n z e
    obtain ⟨c1, c2, c3⟩ := h.up n z hz b1
    exact Or.inr ⟨b, b2, c1, c2, c3⟩
/-- a place in p's range is p's or below it -/
theorem tr.in (h : tr G N r ps lo hi) {W z : Nat} (hW : ∀ a ∈ N, hi a ≤ W) (hz : z ∈ N) : ∀ f p, p ∈ N → W ≤ hi p - lo p + f → lo p < ps z → ps z < hi p → ∃ n, tup G n z = some p := by
  intro f
  induction f with
  | zero =>
    intro p hp hf h1 h2
    cases e : hp_r G p 4 with
    | none =>
      rw [h.1.2.2 p hp e]
      exact h.top hW W z hz (by omega)
    | some a =>
      have hw := (h.2 p hp).2.1
      obtain ⟨b1, b2, b3, b4, -⟩ := (h.2 p hp).par h.2 e
      have := hW a b1
      omega
  | succ f ih =>
    intro p hp hf h1 h2
    cases e : hp_r G p 4 with
    | none =>
      rw [h.1.2.2 p hp e]
      exact h.top hW W z hz (by omega)
    | some a =>
      have hw := (h.2 p hp).2.1
      have hwz := (h.2 z hz).2.1
      obtain ⟨b1, b2, b3, b4, b5⟩ := (h.2 p hp).par h.2 e
      obtain ⟨n, hn⟩ := ih a b1 (by omega) (by omega) (by omega)
      rcases h.via hz hn with u | ⟨b, c1, c2, c3, c4⟩
      · subst u
        rcases b5 with ⟨-, -, d3⟩ | ⟨-, d2, -⟩ <;> omega
      · obtain ⟨-, -, -, -, d⟩ := (h.2 b c2).par h.2 c1
        rcases b5 with ⟨f1, f2, f3⟩ | ⟨f1, f2, f3⟩
        · rcases d with ⟨g1, g2, g3⟩ | ⟨g1, g2, g3⟩
          · have eb : b = p := by rw [f1] at g1; exact (Option.some.inj g1).symm
            subst eb
            cases n with
            | zero =>
              have : z = a := Option.some.inj hn
              subst this
              omega
            | succ n =>
              obtain ⟨b', h3, h4⟩ := tup_snoc n z hn
              obtain ⟨k1, k2, k3⟩ := h.up n z hz h3
              obtain ⟨-, -, -, -, d'⟩ := (h.2 b' k1).par h.2 h4
              rcases d' with ⟨m1, m2, m3⟩ | ⟨m1, m2, m3⟩
              · have : b' = b := by rw [f1] at m1; exact (Option.some.inj m1).symm
                subst this
                exact ⟨n, h3⟩
              · omega
          · omega
        · rcases d with ⟨g1, g2, g3⟩ | ⟨g1, g2, g3⟩
          · omega
          · have eb : b = p := by rw [f1] at g1; exact (Option.some.inj g1).symm
            subst eb
            cases n with
            | zero =>
              have : z = a := Option.some.inj hn
              subst this
              omega
            | succ n =>
              obtain ⟨b', h3, h4⟩ := tup_snoc n z hn
              obtain ⟨k1, k2, k3⟩ := h.up n z hz h3
              obtain ⟨-, -, -, -, d'⟩ := (h.2 b' k1).par h.2 h4
              rcases d' with ⟨m1, m2, m3⟩ | ⟨m1, m2, m3⟩
              · omega
              · have : b' = b := by rw [f1] at m1; exact (Option.some.inj m1).symm
                subst this
                exact ⟨n, h3⟩
theorem tr.sub (h : tr G N r ps lo hi) {z p : Nat} (hz : z ∈ N) (hp : p ∈ N) (h1 : lo p < ps z) (h2 : ps z < hi p) : z = p ∨ (∃ b, hp_r G p 5 = some b ∧ b ∈ N ∧ lo b < ps z ∧ ps z < hi b ∧ ps z < ps p) ∨ ∃ b, hp_r G p 6 = some b ∧ b ∈ N ∧ lo b < ps z ∧ ps z < hi b ∧ ps p < ps z := by
  obtain ⟨W, hW⟩ := tr_bound hi N
  obtain ⟨n, hn⟩ := h.in hW hz W p hp (by omega) h1 h2
  have hwz := (h.2 z hz).2.1
  rcases h.via hz hn with u | ⟨b, c1, c2, c3, c4⟩
  · exact Or.inl u
  · obtain ⟨-, -, -, -, d⟩ := (h.2 b c2).par h.2 c1
    rcases d with ⟨g1, g2, g3⟩ | ⟨g1, g2, g3⟩
    · exact Or.inr (Or.inl ⟨b, g1, c2, by omega, by omega, by omega⟩)
    · exact Or.inr (Or.inr ⟨b, g1, c2, by omega, by omega, by omega⟩)
theorem tr.all (h : tr G N r ps lo hi) {z : Nat} (hz : z ∈ N) : lo r < ps z ∧ ps z < hi r := by
  obtain ⟨W, hW⟩ := tr_bound hi N
  obtain ⟨n, hn⟩ := h.top hW W z hz (by omega)
  have hwz := (h.2 z hz).2.1
  obtain ⟨-, c2, c3⟩ := h.up n z hz hn
  omega
end
