/-! a new leaf of a tree (tools/gen_leaf.py) -/
set_option maxRecDepth 100000
/-- the word l belongs below p -/
def wi (Lf : Nat → List Nat) (N : List Nat) (ps lo hi : Nat → Nat) (l : List Nat) (p : Nat) : Prop := ∀ z ∈ N, (ps z ≤ lo p → kl (Lf z) l) ∧ (hi p ≤ ps z → kl l (Lf z))
section
variable {G G' : GH} {N : List Nat} {r : Nat} {ps lo hi : Nat → Nat} {Lf : Nat → List Nat}
theorem wi.root {l : List Nat} (h : tr G N r ps lo hi) : wi Lf N ps lo hi l r := fun z hz => by
  have := h.all hz
  exact ⟨fun u => by omega, fun u => by omega⟩
theorem wi.left {l : List Nat} {p b : Nat} (h : wi Lf N ps lo hi l p) (ho : tro Lf N ps) (hp : p ∈ N) (hg : ∀ a ∈ N, gw (Lf a)) (gl : gw l) (hl : kl l (Lf p)) (h1 : lo b = lo p) (h2 : hi b = ps p) : wi Lf N ps lo hi l b := fun z hz => by
  refine ⟨fun u => (h z hz).1 (by omega), fun u => ?_⟩
  rw [h2] at u
  rcases Nat.eq_or_lt_of_le u with e | e
  · rw [← (ho p hp z hz).2 e]; exact hl
  · exact kl_tr gl (hg p hp) (hg z hz) hl ((ho p hp z hz).1 e)
theorem wi.right {l : List Nat} {p b : Nat} (h : wi Lf N ps lo hi l p) (ho : tro Lf N ps) (hp : p ∈ N) (hg : ∀ a ∈ N, gw (Lf a)) (gl : gw l) (hl : kl (Lf p) l) (h1 : lo b = ps p) (h2 : hi b = hi p) : wi Lf N ps lo hi l b := fun z hz => by
  refine ⟨fun u => ?_, fun u => (h z hz).2 (by omega)⟩
  rw [h1] at u
  rcases Nat.eq_or_lt_of_le u with e | e
  · rw [(ho z hz p hp).2 e]; exact hl
  · exact kl_tr (hg z hz) (hg p hp) gl ((ho z hz p hp).1 e) hl
theorem tr.mem {N2 : List Nat} (h : tr G N r ps lo hi) (hm : ∀ a, a ∈ N ↔ a ∈ N2) : tr G N2 r ps lo hi := by
  refine ⟨⟨(hm r).1 h.1.1, h.1.2.1, fun a ha => h.1.2.2 a ((hm a).2 ha)⟩, fun a ha => ?_⟩
  obtain ⟨a1, a2, a3, a4, a5⟩ := h.2 a ((hm a).2 ha)
  exact ⟨a1, a2, fun b hb => ⟨(hm b).1 (a3 b hb).1, (a3 b hb).2⟩, fun b hb => ⟨(hm b).1 (a4 b hb).1, (a4 b hb).2⟩, fun b hb => ⟨(hm b).1 (a5 b hb).1, (a5 b hb).2⟩⟩
theorem tro.mem {N2 : List Nat} (h : tro Lf N ps) (hm : ∀ a, a ∈ N ↔ a ∈ N2) : tro Lf N2 ps := fun a ha b hb => h a ((hm a).2 ha) b ((hm b).2 hb)
/-- a tree of one -/
theorem tr_one {x : Nat} (kx : hp_kd G x = 25) (x4 : hp_r G x 4 = none) (x5 : hp_r G x 5 = none) (x6 : hp_r G x 6 = none) : tr G [x] x (fun _ => 1) (fun _ => 0) (fun _ => 2) ∧ tro Lf [x] (fun _ => 1) := by
  refine ⟨⟨⟨List.mem_singleton.2 rfl, x4, fun a ha _ => List.mem_singleton.1 ha⟩, fun a ha => ?_⟩, fun a ha b hb => ⟨fun u => absurd u (Nat.lt_irrefl _), fun _ => (List.mem_singleton.1 ha).trans (List.mem_singleton.1 hb).symm⟩⟩
  rw [List.mem_singleton.1 ha]
  exact ⟨kx, ⟨Nat.zero_lt_one, Nat.lt_succ_self 1⟩, (fun b hb => by rw [x5] at hb; cases hb), (fun b hb => by rw [x6] at hb; cases hb), (fun b hb => by rw [x4] at hb; cases hb)⟩
theorem tr.leaf5 {p x : Nat} (h : tr G N r ps lo hi) (ho : tro Lf N ps) (hp : p ∈ N) (hx : x ∉ N) (hn : hp_r G p 5 = none) (hwi : wi Lf N ps lo hi (Lf x) p) (hl : kl (Lf x) (Lf p)) (hg : ∀ a ∈ N, gw (Lf a)) (gx : gw (Lf x)) (kx : hp_kd G' x = 25) (hk : ∀ a ∈ N, hp_kd G' a = hp_kd G a)
    (hr : ∀ a ∈ N, ∀ k, k = 4 ∨ k = 5 ∨ k = 6 → hp_r G' a k = if a = p ∧ k = 5 then some x else hp_r G a k) (x4 : hp_r G' x 4 = some p) (x5 : hp_r G' x 5 = none) (x6 : hp_r G' x 6 = none) : ∃ ps' lo' hi', tr G' (x :: N) r ps' lo' hi' ∧ tro Lf (x :: N) ps' := by
  have wp := (h.2 p hp).2.1
  have npx : p ≠ x := fun e => hx (by rw [← e]; exact hp)
  refine ⟨fun a => if a = x then 4 * ps p - 2 else 4 * ps a, fun a => if a = x then 4 * lo p else 4 * lo a, fun a => if a = x then 4 * ps p else 4 * hi a, ⟨⟨List.mem_cons_of_mem _ h.1.1, ?_, fun a ha e => ?_⟩, fun a ha => ?_⟩, ?_⟩
  · rw [hr r h.1.1 4 (Or.inl rfl), if_neg (fun t => absurd t.2 (by decide))]
    exact h.1.2.1
  · rcases List.mem_cons.1 ha with u | u
    · rw [u, x4] at e; cases e
    · rw [hr a u 4 (Or.inl rfl), if_neg (fun t => absurd t.2 (by decide))] at e
      exact h.1.2.2 a u e
  · by_cases ax : a = x
    · rw [ax]
      refine ⟨kx, ⟨(by dsimp only; (repeat' split) <;> omega), (by dsimp only; (repeat' split) <;> omega)⟩, (fun b hb => by rw [x5] at hb; cases hb), (fun b hb => by rw [x6] at hb; cases hb), fun b hb => ?_⟩
      rw [x4] at hb
      have eb : b = p := (Option.some.inj hb).symm
      rw [eb]
      exact ⟨List.mem_cons_of_mem _ hp, Or.inl (by rw [hr p hp 5 (Or.inr (Or.inl rfl)), if_pos ⟨rfl, rfl⟩])⟩
    have haN : a ∈ N := (List.mem_cons.1 ha).resolve_left ax
    have ta := h.2 a haN
    have wa := ta.2.1
    refine ⟨by rw [hk a haN]; exact ta.1, ⟨(by dsimp only; (repeat' split) <;> omega), (by dsimp only; (repeat' split) <;> omega)⟩, fun b hb => ?_, fun b hb => ?_, fun b hb => ?_⟩
    · rw [hr a haN 5 (Or.inr (Or.inl rfl))] at hb
      by_cases e : a = p
      · rw [if_pos ⟨e, rfl⟩] at hb
        have eb : b = x := (Option.some.inj hb).symm
        rw [eb, e]
        exact ⟨List.mem_cons_self, x4, (by dsimp only; (repeat' split) <;> omega), (by dsimp only; (repeat' split) <;> omega)⟩
      · rw [if_neg (fun t => e t.1)] at hb
        obtain ⟨b1, b2, b3, b4⟩ := ta.2.2.1 b hb
        have nb : b ≠ x := fun t => hx (by rw [← t]; exact b1)
        exact ⟨List.mem_cons_of_mem _ b1, by rw [hr b b1 4 (Or.inl rfl), if_neg (fun t => absurd t.2 (by decide))]; exact b2, (by dsimp only; (repeat' split) <;> omega), (by dsimp only; (repeat' split) <;> omega)⟩
    · rw [hr a haN 6 (Or.inr (Or.inr rfl)), if_neg (fun t => absurd t.2 (by decide))] at hb
      obtain ⟨b1, b2, b3, b4⟩ := ta.2.2.2.1 b hb
      have nb : b ≠ x := fun t => hx (by rw [← t]; exact b1)
      exact ⟨List.mem_cons_of_mem _ b1, by rw [hr b b1 4 (Or.inl rfl), if_neg (fun t => absurd t.2 (by decide))]; exact b2, (by dsimp only; (repeat' split) <;> omega), (by dsimp only; (repeat' split) <;> omega)⟩
    · rw [hr a haN 4 (Or.inl rfl), if_neg (fun t => absurd t.2 (by decide))] at hb
      obtain ⟨b1, b2⟩ := ta.2.2.2.2 b hb
      refine ⟨List.mem_cons_of_mem _ b1, ?_⟩
      rcases b2 with v | v
      · exact Or.inl (by rw [hr b b1 5 (Or.inr (Or.inl rfl)), if_neg (fun t => by rw [t.1, hn] at v; cases v)]; exact v)
      · exact Or.inr (by rw [hr b b1 6 (Or.inr (Or.inr rfl)), if_neg (fun t => absurd t.2 (by decide))]; exact v)
  · -- the order
    have cmp : ∀ z ∈ N, (ps z < ps p → kl (Lf z) (Lf x)) ∧ (ps p ≤ ps z → kl (Lf x) (Lf z)) := fun z hz => by
      have key : ps z ≤ lo p ∨ hi p ≤ ps z ∨ (lo p < ps z ∧ ps z < hi p) := by omega
      rcases key with k | k | k
      · exact ⟨fun _ => (hwi z hz).1 k, fun u => by omega⟩
      · exact ⟨fun u => by omega, fun _ => (hwi z hz).2 k⟩
      · rcases h.sub hz hp k.1 k.2 with u | ⟨b, u, -⟩ | ⟨b, -, -, -, -, u⟩
        · subst u
          exact ⟨fun u => absurd u (Nat.lt_irrefl _), fun _ => hl⟩
        · rw [hn] at u; cases u
        · exact ⟨fun u2 => by omega, fun _ => kl_tr gx (hg p hp) (hg z hz) hl ((ho p hp z hz).1 u)⟩
    intro a ha b hb
    dsimp only
    by_cases ax : a = x
    · by_cases bx : b = x
      · rw [if_pos ax, if_pos bx]
        exact ⟨fun u => absurd u (Nat.lt_irrefl _), fun _ => ax.trans bx.symm⟩
      · have hbN := (List.mem_cons.1 hb).resolve_left bx
        rw [if_pos ax, if_neg bx, ax]
        exact ⟨fun u => (cmp b hbN).2 (by omega), fun u => by omega⟩
    · have haN := (List.mem_cons.1 ha).resolve_left ax
      by_cases bx : b = x
      · rw [if_neg ax, if_pos bx, bx]
        exact ⟨fun u => (cmp a haN).1 (by omega), fun u => by omega⟩
      · have hbN := (List.mem_cons.1 hb).resolve_left bx
        rw [if_neg ax, if_neg bx]
        exact ⟨fun u => (ho a haN b hbN).1 (by omega), fun u => (ho a haN b hbN).2 (by omega)⟩
theorem tr.leaf6 {p x : Nat} (h : tr G N r ps lo hi) (ho : tro Lf N ps) (hp : p ∈ N) (hx : x ∉ N) (hn : hp_r G p 6 = none) (hwi : wi Lf N ps lo hi (Lf x) p) (hl : kl (Lf p) (Lf x)) (hg : ∀ a ∈ N, gw (Lf a)) (gx : gw (Lf x)) (kx : hp_kd G' x = 25) (hk : ∀ a ∈ N, hp_kd G' a = hp_kd G a)
    (hr : ∀ a ∈ N, ∀ k, k = 4 ∨ k = 5 ∨ k = 6 → hp_r G' a k = if a = p ∧ k = 6 then some x else hp_r G a k) (x4 : hp_r G' x 4 = some p) (x5 : hp_r G' x 5 = none) (x6 : hp_r G' x 6 = none) : ∃ ps' lo' hi', tr G' (x :: N) r ps' lo' hi' ∧ tro Lf (x :: N) ps' := by
  have wp := (h.2 p hp).2.1
  have npx : p ≠ x := fun e => hx (by rw [← e]; exact hp)
  refine ⟨fun a => if a = x then 4 * ps p + 2 else 4 * ps a, fun a => if a = x then 4 * ps p else 4 * lo a, fun a => if a = x then 4 * hi p else 4 * hi a, ⟨⟨List.mem_cons_of_mem _ h.1.1, ?_, fun a ha e => ?_⟩, fun a ha => ?_⟩, ?_⟩
  · rw [hr r h.1.1 4 (Or.inl rfl), if_neg (fun t => absurd t.2 (by decide))]
    exact h.1.2.1
  · rcases List.mem_cons.1 ha with u | u
    · rw [u, x4] at e; cases e
    · rw [hr a u 4 (Or.inl rfl), if_neg (fun t => absurd t.2 (by decide))] at e
      exact h.1.2.2 a u e
  · by_cases ax : a = x
    · rw [ax]
      refine ⟨kx, ⟨(by dsimp only; (repeat' split) <;> omega), (by dsimp only; (repeat' split) <;> omega)⟩, (fun b hb => by rw [x5] at hb; cases hb), (fun b hb => by rw [x6] at hb; cases hb), fun b hb => ?_⟩
      rw [x4] at hb
      have eb : b = p := (Option.some.inj hb).symm
      rw [eb]
      exact ⟨List.mem_cons_of_mem _ hp, Or.inr (by rw [hr p hp 6 (Or.inr (Or.inr rfl)), if_pos ⟨rfl, rfl⟩])⟩
    have haN : a ∈ N := (List.mem_cons.1 ha).resolve_left ax
    have ta := h.2 a haN
    have wa := ta.2.1
    refine ⟨by rw [hk a haN]; exact ta.1, ⟨(by dsimp only; (repeat' split) <;> omega), (by dsimp only; (repeat' split) <;> omega)⟩, fun b hb => ?_, fun b hb => ?_, fun b hb => ?_⟩
    · rw [hr a haN 5 (Or.inr (Or.inl rfl)), if_neg (fun t => absurd t.2 (by decide))] at hb
      obtain ⟨b1, b2, b3, b4⟩ := ta.2.2.1 b hb
      have nb : b ≠ x := fun t => hx (by rw [← t]; exact b1)
      exact ⟨List.mem_cons_of_mem _ b1, by rw [hr b b1 4 (Or.inl rfl), if_neg (fun t => absurd t.2 (by decide))]; exact b2, (by dsimp only; (repeat' split) <;> omega), (by dsimp only; (repeat' split) <;> omega)⟩
    · rw [hr a haN 6 (Or.inr (Or.inr rfl))] at hb
      by_cases e : a = p
      · rw [if_pos ⟨e, rfl⟩] at hb
        have eb : b = x := (Option.some.inj hb).symm
        rw [eb, e]
        exact ⟨List.mem_cons_self, x4, (by dsimp only; (repeat' split) <;> omega), (by dsimp only; (repeat' split) <;> omega)⟩
      · rw [if_neg (fun t => e t.1)] at hb
        obtain ⟨b1, b2, b3, b4⟩ := ta.2.2.2.1 b hb
        have nb : b ≠ x := fun t => hx (by rw [← t]; exact b1)
        exact ⟨List.mem_cons_of_mem _ b1, by rw [hr b b1 4 (Or.inl rfl), if_neg (fun t => absurd t.2 (by decide))]; exact b2, (by dsimp only; (repeat' split) <;> omega), (by dsimp only; (repeat' split) <;> omega)⟩
    · rw [hr a haN 4 (Or.inl rfl), if_neg (fun t => absurd t.2 (by decide))] at hb
      obtain ⟨b1, b2⟩ := ta.2.2.2.2 b hb
      refine ⟨List.mem_cons_of_mem _ b1, ?_⟩
      rcases b2 with v | v
      · exact Or.inl (by rw [hr b b1 5 (Or.inr (Or.inl rfl)), if_neg (fun t => absurd t.2 (by decide))]; exact v)
      · exact Or.inr (by rw [hr b b1 6 (Or.inr (Or.inr rfl)), if_neg (fun t => by rw [t.1, hn] at v; cases v)]; exact v)
  · -- the order
    have cmp : ∀ z ∈ N, (ps z ≤ ps p → kl (Lf z) (Lf x)) ∧ (ps p < ps z → kl (Lf x) (Lf z)) := fun z hz => by
      have key : ps z ≤ lo p ∨ hi p ≤ ps z ∨ (lo p < ps z ∧ ps z < hi p) := by omega
      rcases key with k | k | k
      · exact ⟨fun _ => (hwi z hz).1 k, fun u => by omega⟩
      · exact ⟨fun u => by omega, fun _ => (hwi z hz).2 k⟩
      · rcases h.sub hz hp k.1 k.2 with u | ⟨b, -, -, -, -, u⟩ | ⟨b, u, -⟩
        · subst u
          exact ⟨fun _ => hl, fun u => absurd u (Nat.lt_irrefl _)⟩
        · exact ⟨fun _ => kl_tr (hg z hz) (hg p hp) gx ((ho z hz p hp).1 u) hl, fun u2 => by omega⟩
        · rw [hn] at u; cases u
    intro a ha b hb
    dsimp only
    by_cases ax : a = x
    · by_cases bx : b = x
      · rw [if_pos ax, if_pos bx]
        exact ⟨fun u => absurd u (Nat.lt_irrefl _), fun _ => ax.trans bx.symm⟩
      · have hbN := (List.mem_cons.1 hb).resolve_left bx
        rw [if_pos ax, if_neg bx, ax]
        exact ⟨fun u => (cmp b hbN).2 (by omega), fun u => by omega⟩
    · have haN := (List.mem_cons.1 ha).resolve_left ax
      by_cases bx : b = x
      · rw [if_neg ax, if_pos bx, bx]
        exact ⟨fun u => (cmp a haN).1 (by omega), fun u => by omega⟩
      · have hbN := (List.mem_cons.1 hb).resolve_left bx
        rw [if_neg ax, if_neg bx]
        exact ⟨fun u => (ho a haN b hbN).1 (by omega), fun u => (ho a haN b hbN).2 (by omega)⟩
end
