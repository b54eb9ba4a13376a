/-! rotations of a tree (tools/gen_rot.py) -/
set_option maxRecDepth 100000
/-- q, the child of p by the field u, comes up -/
def rot (G G' : GH) (p q u v : Nat) : Prop := (∀ x, hp_r G' x 4 = if x = p then some q else if x = q then hp_r G p 4 else if hp_r G q v = some x then some p else hp_r G x 4) ∧ (∀ x, hp_r G' x v = if x = q then some p else if hp_r G p 4 = some x ∧ hp_r G x v = some p then some q else hp_r G x v) ∧
  ∀ x, hp_r G' x u = if x = p then hp_r G q v else if hp_r G p 4 = some x ∧ hp_r G x u = some p then some q else hp_r G x u
/-- only the tree's own fields (parent, left, right, red) of the cells N have changed -/
def rk (N : List Nat) (G G' : GH) : Prop := cf (fun a => a ∈ N) G G' ∧ (∀ x k, k < 4 ∨ 7 ≤ k → hp_r G' x k = hp_r G x k) ∧ (∀ x k, k ≠ 8 → hp_i G' x k = hp_i G x k) ∧ ∀ x, hp_l G' x = hp_l G x
section
variable {w : WD} {d : Nat} {G G' : GH} {N : List Nat} {r : Nat} {ps lo hi : Nat → Nat}
theorem rk.id0 : rk N G G := ⟨cf.rf, fun _ _ _ => rfl, fun _ _ _ => rfl, fun _ => rfl⟩
theorem rk.tr {G1 G2 : GH} (h : rk N G G1) (h2 : rk N G1 G2) : rk N G G2 := ⟨h.1.tr h2.1, fun x k hk => (h2.2.1 x k hk).trans (h.2.1 x k hk), fun x k hk => (h2.2.2.1 x k hk).trans (h.2.2.1 x k hk), fun x => (h2.2.2.2 x).trans (h.2.2.2 x)⟩
theorem rk.sR {a k : Nat} {v : Option Nat} (h : rk N G G') (ha : a ∈ N) (hk : 4 ≤ k ∧ k < 7) : rk N G (hp_sR G' a k v) := by
  refine ⟨h.1.sR (Or.inl ha), fun x j hj => ?_, h.2.2.1, h.2.2.2⟩
  rw [hp_r_sR]
  split
  · rw [if_neg (by omega)]; exact h.2.1 x j hj
  · exact h.2.1 x j hj
theorem rk.sI {a : Nat} {v : Int32} (h : rk N G G') (ha : a ∈ N) : rk N G (hp_sI G' a 8 v) := by
  refine ⟨h.1.sI (Or.inl ha), h.2.1, fun x j hj => ?_, h.2.2.2⟩
  rw [hp_i_sI]
  split
  · first | exact h.2.2.1 x j hj | (rw [if_neg hj]; exact h.2.2.1 x j hj)
  · exact h.2.2.1 x j hj
theorem tr.rotLeft {p q : Nat} (h : tr G N r ps lo hi) (hp : p ∈ N) (hq : hp_r G p 6 = some q) (hk : ∀ x, x ∈ N → hp_kd G' x = 25) (hr : rot G G' p q 6 5) : ∃ lo' hi', tr G' N (if hp_r G p 4 = none then q else r) ps lo' hi' := by
  obtain ⟨hP, hD, hU⟩ := hr
  have tp := h.2 p hp
  obtain ⟨hqN, q4, ql, qh⟩ := tp.2.2.2.1 q hq
  have tq := h.2 q hqN
  have wp := tp.2.1
  have wq := tq.2.1
  have npq : p ≠ q := fun e => by rw [← e] at ql qh; omega
  have dq : ∀ b, hp_r G q 5 = some b → b ≠ p ∧ b ≠ q := fun b hb => by
    obtain ⟨b1, b2, b3, b4⟩ := tq.2.2.1 b hb
    refine ⟨fun e => ?_, fun e => ?_⟩
    · rw [e] at b3 b4; omega
    · rw [e] at b3 b4; omega
  have pu : ∀ u, hp_r G p 4 = some u → u ∈ N ∧ u ≠ p ∧ u ≠ q ∧ (hp_r G u 5 = some p ∨ hp_r G u 6 = some p) := fun u hu => by
    obtain ⟨u1, u2, u3, u4, u5⟩ := tp.par h.2 hu
    refine ⟨u1, fun e => ?_, fun e => ?_, u5.imp (fun v => v.1) (fun v => v.1)⟩
    · rw [e] at u2 u3 u4; omega
    · rw [e] at u2 u3 u4; omega
  have oq : ∀ a ∈ N, (hp_r G a 5 = some q ∨ hp_r G a 6 = some q) → a = p := fun a ha v => by
    have ta := h.2 a ha
    rcases v with v | v
    · have t := (ta.2.2.1 q v).2.1
      rw [q4] at t
      exact (Option.some.inj t).symm
    · have t := (ta.2.2.2.1 q v).2.1
      rw [q4] at t
      exact (Option.some.inj t).symm
  have ob : ∀ a ∈ N, ∀ b, (hp_r G a 5 = some b ∨ hp_r G a 6 = some b) → hp_r G q 5 = some b → a = q := fun a ha b v u => by
    have ta := h.2 a ha
    have u2 := (tq.2.2.1 b u).2.1
    rcases v with v | v
    · have t := (ta.2.2.1 b v).2.1
      rw [u2] at t
      exact (Option.some.inj t).symm
    · have t := (ta.2.2.2.1 b v).2.1
      rw [u2] at t
      exact (Option.some.inj t).symm
  refine ⟨fun x => if x = q then lo p else lo x, fun x => if x = p then ps q else hi x, ⟨?_, ?_, fun a ha e => ?_⟩, fun a ha => ?_⟩
  · split
    · exact hqN
    · exact h.1.1
  · by_cases e : hp_r G p 4 = none
    · rw [if_pos e, hP, if_neg npq.symm, if_pos rfl]
      exact e
    · rw [if_neg e, hP, if_neg (fun v => e (by rw [← v]; exact h.1.2.1)), if_neg (fun v => by have t := h.1.2.1; rw [v, q4] at t; cases t), if_neg (fun v => by have t := (tq.2.2.1 r v).2.1; rw [h.1.2.1] at t; cases t)]
      exact h.1.2.1
  · rw [hP] at e
    by_cases e1 : a = p
    · rw [if_pos e1] at e; cases e
    · rw [if_neg e1] at e
      by_cases e2 : a = q
      · rw [if_pos e2] at e
        rw [if_pos e, e2]
      · rw [if_neg e2] at e
        by_cases e3 : hp_r G q 5 = some a
        · rw [if_pos e3] at e; cases e
        · rw [if_neg e3] at e
          have er := h.1.2.2 a ha e
          rw [if_neg (fun v => e1 (er.trans (h.1.2.2 p hp v).symm))]
          exact er
  · by_cases e1 : a = p
    · rw [e1]
      refine ⟨hk p hp, ⟨(by dsimp only; (repeat' split) <;> omega), (by dsimp only; (repeat' split) <;> omega)⟩, fun b hb => ?_, fun b hb => ?_, fun b hb => ?_⟩
      · rw [hD, if_neg npq, if_neg (fun v => (pu p v.1).2.1 rfl)] at hb
        obtain ⟨b1, b2, b3, b4⟩ := tp.2.2.1 b hb
        have n1 : b ≠ p := fun e => by rw [e] at b3 b4; omega
        have n2 : b ≠ q := fun e => by rw [e] at b3 b4; omega
        have n3 : hp_r G q 5 ≠ some b := fun v => by
          have t := (tq.2.2.1 b v).2.1
          rw [b2] at t
          exact npq (Option.some.inj t)
        exact ⟨b1, by rw [hP, if_neg n1, if_neg n2, if_neg n3]; exact b2, (by dsimp only; (repeat' split) <;> omega), (by dsimp only; (repeat' split) <;> omega)⟩
      · rw [hU, if_pos rfl] at hb
        obtain ⟨b1, b2, b3, b4⟩ := tq.2.2.1 b hb
        obtain ⟨n1, n2⟩ := dq b hb
        exact ⟨b1, by rw [hP, if_neg n1, if_neg n2, if_pos hb], (by dsimp only; (repeat' split) <;> omega), (by dsimp only; (repeat' split) <;> omega)⟩
      · rw [hP, if_pos rfl] at hb
        have eb : b = q := (Option.some.inj hb).symm
        rw [eb]
        exact ⟨hqN, Or.inl (by rw [hD, if_pos rfl])⟩
    by_cases e2 : a = q
    · rw [e2]
      refine ⟨hk q hqN, ⟨(by dsimp only; (repeat' split) <;> omega), (by dsimp only; (repeat' split) <;> omega)⟩, fun b hb => ?_, fun b hb => ?_, fun b hb => ?_⟩
      · rw [hD, if_pos rfl] at hb
        have eb : b = p := (Option.some.inj hb).symm
        rw [eb]
        exact ⟨hp, by rw [hP, if_pos rfl], (by dsimp only; (repeat' split) <;> omega), (by dsimp only; (repeat' split) <;> omega)⟩
      · rw [hU, if_neg npq.symm, if_neg (fun v => (pu q v.1).2.2.1 rfl)] at hb
        obtain ⟨b1, b2, b3, b4⟩ := tq.2.2.2.1 b hb
        have n1 : b ≠ p := fun e => by rw [e] at b3 b4; omega
        have n2 : b ≠ q := fun e => by rw [e] at b3 b4; omega
        have n3 : hp_r G q 5 ≠ some b := fun v => by
          obtain ⟨-, -, t3, t4⟩ := tq.2.2.1 b v
          omega
        exact ⟨b1, by rw [hP, if_neg n1, if_neg n2, if_neg n3]; exact b2, (by dsimp only; (repeat' split) <;> omega), (by dsimp only; (repeat' split) <;> omega)⟩
      · rw [hP, if_neg npq.symm, if_pos rfl] at hb
        obtain ⟨u1, u2, u3, u4⟩ := pu b hb
        refine ⟨u1, ?_⟩
        rcases u4 with v | v
        · exact Or.inl (by rw [hD, if_neg u3, if_pos ⟨hb, v⟩])
        · exact Or.inr (by rw [hU, if_neg u2, if_pos ⟨hb, v⟩])
    · have ta := h.2 a ha
      have wa := ta.2.1
      refine ⟨hk a ha, ⟨(by dsimp only; (repeat' split) <;> omega), (by dsimp only; (repeat' split) <;> omega)⟩, fun b hb => ?_, fun b hb => ?_, fun b hb => ?_⟩
      · rw [hD, if_neg e2] at hb
        by_cases e3 : hp_r G p 4 = some a ∧ hp_r G a 5 = some p
        · rw [if_pos e3] at hb
          have eb : b = q := (Option.some.inj hb).symm
          obtain ⟨-, -, c3, c4⟩ := ta.2.2.1 p e3.2
          rw [eb]
          exact ⟨hqN, by rw [hP, if_neg npq.symm, if_pos rfl]; exact e3.1, (by dsimp only; (repeat' split) <;> omega), (by dsimp only; (repeat' split) <;> omega)⟩
        · rw [if_neg e3] at hb
          obtain ⟨b1, b2, b3, b4⟩ := ta.2.2.1 b hb
          have n1 : b ≠ p := fun e => e3 ⟨by rw [← e]; exact b2, by rw [hb, e]⟩
          have n2 : b ≠ q := fun e => e1 (oq a ha (Or.inl (by rw [hb, e])))
          have n3 : hp_r G q 5 ≠ some b := fun v => e2 (ob a ha b (Or.inl hb) v)
          exact ⟨b1, by rw [hP, if_neg n1, if_neg n2, if_neg n3]; exact b2, (by dsimp only; (repeat' split) <;> omega), (by dsimp only; (repeat' split) <;> omega)⟩
      · rw [hU, if_neg e1] at hb
        by_cases e3 : hp_r G p 4 = some a ∧ hp_r G a 6 = some p
        · rw [if_pos e3] at hb
          have eb : b = q := (Option.some.inj hb).symm
          obtain ⟨-, -, c3, c4⟩ := ta.2.2.2.1 p e3.2
          rw [eb]
          exact ⟨hqN, by rw [hP, if_neg npq.symm, if_pos rfl]; exact e3.1, (by dsimp only; (repeat' split) <;> omega), (by dsimp only; (repeat' split) <;> omega)⟩
        · rw [if_neg e3] at hb
          obtain ⟨b1, b2, b3, b4⟩ := ta.2.2.2.1 b hb
          have n1 : b ≠ p := fun e => e3 ⟨by rw [← e]; exact b2, by rw [hb, e]⟩
          have n2 : b ≠ q := fun e => e1 (oq a ha (Or.inr (by rw [hb, e])))
          have n3 : hp_r G q 5 ≠ some b := fun v => e2 (ob a ha b (Or.inr hb) v)
          exact ⟨b1, by rw [hP, if_neg n1, if_neg n2, if_neg n3]; exact b2, (by dsimp only; (repeat' split) <;> omega), (by dsimp only; (repeat' split) <;> omega)⟩
      · rw [hP, if_neg e1, if_neg e2] at hb
        by_cases e3 : hp_r G q 5 = some a
        · rw [if_pos e3] at hb
          have eb : b = p := (Option.some.inj hb).symm
          rw [eb]
          exact ⟨hp, Or.inr (by rw [hU, if_pos rfl]; exact e3)⟩
        · rw [if_neg e3] at hb
          obtain ⟨u1, u2⟩ := ta.2.2.2.2 b hb
          refine ⟨u1, ?_⟩
          rcases u2 with v | v
          · exact Or.inl (by rw [hD, if_neg (fun e => e3 (by rw [← e]; exact v)), if_neg (fun t => e1 (Option.some.inj (v.symm.trans t.2)))]; exact v)
          · exact Or.inr (by rw [hU, if_neg (fun e => e2 (by rw [e, hq] at v; exact (Option.some.inj v).symm)), if_neg (fun t => e1 (Option.some.inj (v.symm.trans t.2)))]; exact v)
theorem J26_rotateLeft_C {p q : Nat} (h : tr G N r ps lo hi) (hA : ∀ a ∈ N, hp_A w a) (hp : p ∈ N) (hq : hp_r G p 6 = some q) : wk_C w mJ26_rotateLeft d 0 [vR (some r), vR (some p)] G (fun v G' => v = some (vR (some (if hp_r G p 4 = none then q else r))) ∧ rot G G' p q 6 5 ∧ rk N G G' ∧ ∀ x, hp_i G' x 8 = 0 ∨ hp_i G' x 8 = hp_i G x 8) (fun _ _ _ => False) := by
  have tp := h.2 p hp
  obtain ⟨hqN, q4, ql, qh⟩ := tp.2.2.2.1 q hq
  have tq := h.2 q hqN
  have wp := tp.2.1
  have wq := tq.2.1
  have npq : p ≠ q := fun e => by rw [← e] at ql qh; omega
  have dq : ∀ b, hp_r G q 5 = some b → b ≠ p ∧ b ≠ q := fun b hb => by
    obtain ⟨b1, b2, b3, b4⟩ := tq.2.2.1 b hb
    refine ⟨fun e => ?_, fun e => ?_⟩
    · rw [e] at b3 b4; omega
    · rw [e] at b3 b4; omega
  have pu : ∀ u, hp_r G p 4 = some u → u ∈ N ∧ u ≠ p ∧ u ≠ q ∧ ((hp_r G u 5 = some p ∧ hp_r G u 6 ≠ some p) ∨ (hp_r G u 6 = some p ∧ hp_r G u 5 ≠ some p)) := fun u hu => by
    obtain ⟨u1, u2, u3, u4, u5⟩ := tp.par h.2 hu
    have wu := (h.2 u u1).2.1
    refine ⟨u1, fun e => ?_, fun e => ?_, u5.imp (fun v => ⟨v.1, fun t => ?_⟩) (fun v => ⟨v.1, fun t => ?_⟩)⟩
    · rw [e] at u2 u3 u4; omega
    · rw [e] at u2 u3 u4; omega
    · obtain ⟨-, -, t3, t4⟩ := (h.2 u u1).2.2.2.1 p t
      omega
    · obtain ⟨-, -, t3, t4⟩ := (h.2 u u1).2.2.1 p t
      omega
  have kp := tp.1
  have kq := tq.1
  refine wk_C_of (by decide) rfl (Nat.le_of_ble_eq_true rfl) ?_
  have fin : ∀ (Gn : GH) (R : Nat), R = (if hp_r G p 4 = none then q else r) → rk N G Gn → (∀ x, hp_i Gn x 8 = 0 ∨ hp_i Gn x 8 = hp_i G x 8) → (∀ x, hp_r Gn x 4 = if x = q then hp_r G p 4 else if hp_r G q 5 = some x then some p else hp_r G x 4) → (∀ x, hp_r Gn x 5 = if hp_r G p 4 = some x ∧ hp_r G x 5 = some p then some q else hp_r G x 5) → (∀ x, hp_r Gn x 6 = if x = p then hp_r G q 5 else if hp_r G p 4 = some x ∧ hp_r G x 6 = some p then some q else hp_r G x 6) →
      wk_V w mJ26_rotateLeft (d, 0, (fun v G' => v = some (vR (some (if hp_r G p 4 = none then q else r))) ∧ rot G G' p q 6 5 ∧ rk N G G' ∧ ∀ x, hp_i G' x 8 = 0 ∨ hp_i G' x 8 = hp_i G x 8), (fun _ _ _ => False), hp_cs G, hp_ss G) 79 [(0, vR (some R)), (1, vR (some p)), (2, vR (some q))] [] Gn 0 := by
    intro Gn R hR hrk h8 n4 nD nU
    have kp' : hp_kd Gn p = 25 := by rw [hrk.1.kd (by rw [kp]; decide)]; exact kp
    have kq' : hp_kd Gn q = 25 := by rw [hrk.1.kd (by rw [kq]; decide)]; exact kq
    refine blJ26_rotateLeft_79 rfl kq' (hA q hqN) rfl kp' (hA p hp) (blJ26_rotateLeft_89 ⟨by rw [hR], ⟨fun x => ?_, fun x => ?_, fun x => ?_⟩, (hrk.sR hqN (by decide)).sR hp (by decide), h8⟩)
    · rw [hp_r_sR, hp_r_sR, n4 x]
      by_cases e1 : x = p
      · rw [if_pos e1, if_pos rfl, if_pos e1]
      · rw [if_neg e1, if_neg e1]
        by_cases e2 : x = q
        · rw [if_pos e2, if_neg (by decide), if_pos e2]
        · rw [if_neg e2, if_neg e2]
    · rw [hp_r_sR, hp_r_sR, nD x]
      by_cases e1 : x = p
      · have e2 : x ≠ q := fun t => npq (e1.symm.trans t)
        rw [if_pos e1, if_neg (by decide), if_neg e2, if_neg e2]
      · rw [if_neg e1]
        by_cases e2 : x = q
        · rw [if_pos e2, if_pos rfl, if_pos e2]
        · rw [if_neg e2, if_neg e2]
    · rw [hp_r_sR, hp_r_sR, nU x]
      by_cases e1 : x = p
      · have e2 : x ≠ q := fun t => npq (e1.symm.trans t)
        rw [if_pos e1, if_neg (by decide), if_neg e2, if_pos e1]
      · rw [if_neg e1]
        by_cases e2 : x = q
        · rw [if_pos e2, if_neg (by decide)]
        · rw [if_neg e2]
  have mid : ∀ (Gm : GH), rk N G Gm → (∀ x, hp_i Gm x = hp_i G x) → (∀ x, hp_r Gm x 4 = if hp_r G q 5 = some x then some p else hp_r G x 4) → (∀ x, hp_r Gm x 5 = hp_r G x 5) → (∀ x, hp_r Gm x 6 = if x = p then hp_r G q 5 else hp_r G x 6) →
      wk_V w mJ26_rotateLeft (d, 0, (fun v G' => v = some (vR (some (if hp_r G p 4 = none then q else r))) ∧ rot G G' p q 6 5 ∧ rk N G G' ∧ ∀ x, hp_i G' x 8 = 0 ∨ hp_i G' x 8 = hp_i G x 8), (fun _ _ _ => False), hp_cs G, hp_ss G) 34 [(0, vR (some r)), (1, vR (some p)), (2, vR (some q))] [] Gm 0 := by
    intro Gm hrk hi8 m4 mD mU
    have kp' : hp_kd Gm p = 25 := by rw [hrk.1.kd (by rw [kp]; decide)]; exact kp
    have kq' : hp_kd Gm q = 25 := by rw [hrk.1.kd (by rw [kq]; decide)]; exact kq
    have ep : hp_r Gm p 4 = hp_r G p 4 := by rw [m4, if_neg (fun e => (dq p e).1 rfl)]
    have l4 : ∀ x, hp_r (hp_sR Gm q 4 (hp_r G p 4)) x 4 = if x = q then hp_r G p 4 else if hp_r G q 5 = some x then some p else hp_r G x 4 := fun x => by
      rw [hp_r_sR, m4 x]
      by_cases e2 : x = q
      · rw [if_pos e2, if_pos rfl, if_pos e2]
      · rw [if_neg e2, if_neg e2]
    have lk : ∀ x k, k ≠ 4 → hp_r (hp_sR Gm q 4 (hp_r G p 4)) x k = hp_r Gm x k := fun x k hk => by
      rw [hp_r_sR]
      split
      · first | rfl | rw [if_neg hk]
      · rfl
    have hrk2 : rk N G (hp_sR Gm q 4 (hp_r G p 4)) := hrk.sR hqN (by decide)
    refine blJ26_rotateLeft_34 rfl kp' rfl kq' (hA q hqN) (fun u hu => ?_) (fun hn => ?_)
    · rw [ep] at hu ⊢
      obtain ⟨u1, u2, u3, u4⟩ := pu u hu
      have ku' : hp_kd (hp_sR Gm q 4 (hp_r G p 4)) u = 25 := by rw [hp_kd_sR, hrk.1.kd (by rw [(h.2 u u1).1]; decide)]; exact (h.2 u u1).1
      have eS : hp_r (hp_sR Gm q 4 (hp_r G p 4)) u 5 = hp_r G u 5 := by
        rw [lk u 5 (by decide), mD]
      have sm : ∀ x y, hp_r G p 4 = some x → hp_r G p 4 = some y → x = y := fun x y a b => Option.some.inj (a.symm.trans b)
      refine blJ26_rotateLeft_58 hu ku' (fun hne => ?_) (fun he => ?_)
      · rw [eS] at hne
        have hO : hp_r G u 6 = some p := u4.elim (fun t => absurd t.1 hne) (fun t => t.1)
        refine blJ26_rotateLeft_74 hu ku' (hA u u1) (fin _ r ?_ (hrk2.sR u1 (by decide)) (fun x => Or.inr (by rw [hp_i_sR, hp_i_sR, hi8])) (fun x => ?_) (fun x => ?_) (fun x => ?_))
        · rw [hu, if_neg (by intro t; cases t)]
        · rw [hp_r_sR]
          by_cases ex : x = u
          · rw [if_pos ex, if_neg (by decide)]; exact l4 x
          · rw [if_neg ex]; exact l4 x
        · rw [hp_r_sR, lk x 5 (by decide), mD]
          by_cases ex : x = u
          · rw [if_pos ex, if_neg (by decide), if_neg (fun t => hne (by rw [← ex]; exact t.2))]
          · rw [if_neg ex, if_neg (fun t => ex (sm x u t.1 hu))]
        · rw [hp_r_sR, lk x 6 (by decide), mU]
          by_cases ex : x = u
          · rw [if_pos ex, if_pos rfl, if_neg (by rw [ex]; exact u2), if_pos ⟨by rw [ex]; exact hu, by rw [ex]; exact hO⟩]
          · rw [if_neg ex]
            by_cases e1 : x = p
            · rw [if_pos e1, if_pos e1]
            · rw [if_neg e1, if_neg e1, if_neg (fun t => ex (sm x u t.1 hu))]
      · rw [eS] at he
        have hO : hp_r G u 6 ≠ some p := u4.elim (fun t => t.2) (fun t => absurd he t.2)
        refine blJ26_rotateLeft_66 hu ku' (hA u u1) (fin _ r ?_ (hrk2.sR u1 (by decide)) (fun x => Or.inr (by rw [hp_i_sR, hp_i_sR, hi8])) (fun x => ?_) (fun x => ?_) (fun x => ?_))
        · rw [hu, if_neg (by intro t; cases t)]
        · rw [hp_r_sR]
          by_cases ex : x = u
          · rw [if_pos ex, if_neg (by decide)]; exact l4 x
          · rw [if_neg ex]; exact l4 x
        · rw [hp_r_sR, lk x 5 (by decide), mD]
          by_cases ex : x = u
          · rw [if_pos ex, if_pos rfl, if_pos ⟨by rw [ex]; exact hu, by rw [ex]; exact he⟩]
          · rw [if_neg ex, if_neg (fun t => ex (sm x u t.1 hu))]
        · rw [hp_r_sR, lk x 6 (by decide), mU]
          by_cases ex : x = u
          · rw [if_pos ex, if_neg (by decide), if_neg (by rw [ex]; exact u2), if_neg (by rw [ex]; exact u2), if_neg (fun t => hO (by rw [← ex]; exact t.2))]
          · rw [if_neg ex]
            by_cases e1 : x = p
            · rw [if_pos e1, if_pos e1]
            · rw [if_neg e1, if_neg e1, if_neg (fun t => ex (sm x u t.1 hu))]
    · rw [ep] at hn ⊢
      refine blJ26_rotateLeft_48 rfl (by rw [hp_kd_sR]; exact kq') (hA q hqN) (fin _ q (by rw [if_pos hn]) (hrk2.sI hqN) (fun x => ?_) (fun x => ?_) (fun x => ?_) (fun x => ?_))
      · rw [hp_i_sI, hp_i_sR, hi8]
        split
        · rw [if_pos rfl]; exact Or.inl rfl
        · exact Or.inr rfl
      · rw [hp_r_sI]; exact l4 x
      · rw [hp_r_sI, lk x 5 (by decide), mD, if_neg (fun t => by rw [hn] at t; cases t.1)]
      · rw [hp_r_sI, lk x 6 (by decide), mU]
        by_cases e1 : x = p
        · rw [if_pos e1, if_pos e1]
        · rw [if_neg e1, if_neg e1, if_neg (fun t => by rw [hn] at t; cases t.1)]
  refine blJ26_rotateLeft_0 (fun e => by cases e) (fun _ _ => ?_)
  refine blJ26_rotateLeft_4 rfl kp (fun e => by rw [hq] at e; cases e) (fun _ _ => ?_)
  rw [hq]
  have g1 : rk N G (hp_sR G p 6 (hp_r G q 5)) := rk.id0.sR hp (by decide)
  have gU : ∀ x, hp_r (hp_sR G p 6 (hp_r G q 5)) x 6 = if x = p then hp_r G q 5 else hp_r G x 6 := fun x => by
    rw [hp_r_sR]
    split
    · rw [if_pos rfl]
    · rfl
  have gk : ∀ x k, k ≠ 6 → hp_r (hp_sR G p 6 (hp_r G q 5)) x k = hp_r G x k := fun x k hk => by
    rw [hp_r_sR]
    split
    · first | rfl | rw [if_neg hk]
    · rfl
  refine blJ26_rotateLeft_13 rfl kq rfl kp (hA p hp) (fun e => ?_) (fun b hb => ?_)
  · refine mid _ g1 (fun x => rfl) (fun x => ?_) (fun x => gk x 5 (by decide)) gU
    rw [gk x 4 (by decide), if_neg (fun t => by rw [e] at t; cases t)]
  · obtain ⟨b1, b2, b3, b4⟩ := tq.2.2.1 b hb
    refine blJ26_rotateLeft_28 hb (by rw [hp_kd_sR]; exact (h.2 b b1).1) (hA b b1) (mid _ (g1.sR b1 (by decide)) (fun x => rfl) (fun x => ?_) (fun x => ?_) (fun x => ?_))
    · rw [hp_r_sR, gk x 4 (by decide)]
      by_cases ex : x = b
      · rw [if_pos ex, if_pos rfl, if_pos (by rw [ex]; exact hb)]
      · rw [if_neg ex, if_neg (fun t => ex (Option.some.inj (t.symm.trans hb)))]
    · rw [hp_r_sR, gk x 5 (by decide)]
      split
      · rw [if_neg (by decide)]
      · rfl
    · rw [hp_r_sR, gU]
      split
      · rw [if_neg (by decide)]
      · rfl
theorem tr.rotRight {p q : Nat} (h : tr G N r ps lo hi) (hp : p ∈ N) (hq : hp_r G p 5 = some q) (hk : ∀ x, x ∈ N → hp_kd G' x = 25) (hr : rot G G' p q 5 6) : ∃ lo' hi', tr G' N (if hp_r G p 4 = none then q else r) ps lo' hi' := by
  obtain ⟨hP, hD, hU⟩ := hr
  have tp := h.2 p hp
  obtain ⟨hqN, q4, ql, qh⟩ := tp.2.2.1 q hq
  have tq := h.2 q hqN
  have wp := tp.2.1
  have wq := tq.2.1
  have npq : p ≠ q := fun e => by rw [← e] at ql qh; omega
  have dq : ∀ b, hp_r G q 6 = some b → b ≠ p ∧ b ≠ q := fun b hb => by
    obtain ⟨b1, b2, b3, b4⟩ := tq.2.2.2.1 b hb
    refine ⟨fun e => ?_, fun e => ?_⟩
    · rw [e] at b3 b4; omega
    · rw [e] at b3 b4; omega
  have pu : ∀ u, hp_r G p 4 = some u → u ∈ N ∧ u ≠ p ∧ u ≠ q ∧ (hp_r G u 5 = some p ∨ hp_r G u 6 = some p) := fun u hu => by
    obtain ⟨u1, u2, u3, u4, u5⟩ := tp.par h.2 hu
    refine ⟨u1, fun e => ?_, fun e => ?_, u5.imp (fun v => v.1) (fun v => v.1)⟩
    · rw [e] at u2 u3 u4; omega
    · rw [e] at u2 u3 u4; omega
  have oq : ∀ a ∈ N, (hp_r G a 5 = some q ∨ hp_r G a 6 = some q) → a = p := fun a ha v => by
    have ta := h.2 a ha
    rcases v with v | v
    · have t := (ta.2.2.1 q v).2.1
      rw [q4] at t
      exact (Option.some.inj t).symm
    · have t := (ta.2.2.2.1 q v).2.1
      rw [q4] at t
      exact (Option.some.inj t).symm
  have ob : ∀ a ∈ N, ∀ b, (hp_r G a 5 = some b ∨ hp_r G a 6 = some b) → hp_r G q 6 = some b → a = q := fun a ha b v u => by
    have ta := h.2 a ha
    have u2 := (tq.2.2.2.1 b u).2.1
    rcases v with v | v
    · have t := (ta.2.2.1 b v).2.1
      rw [u2] at t
      exact (Option.some.inj t).symm
    · have t := (ta.2.2.2.1 b v).2.1
      rw [u2] at t
      exact (Option.some.inj t).symm
  refine ⟨fun x => if x = p then ps q else lo x, fun x => if x = q then hi p else hi x, ⟨?_, ?_, fun a ha e => ?_⟩, fun a ha => ?_⟩
  · split
    · exact hqN
    · exact h.1.1
  · by_cases e : hp_r G p 4 = none
    · rw [if_pos e, hP, if_neg npq.symm, if_pos rfl]
      exact e
    · rw [if_neg e, hP, if_neg (fun v => e (by rw [← v]; exact h.1.2.1)), if_neg (fun v => by have t := h.1.2.1; rw [v, q4] at t; cases t), if_neg (fun v => by have t := (tq.2.2.2.1 r v).2.1; rw [h.1.2.1] at t; cases t)]
      exact h.1.2.1
  · rw [hP] at e
    by_cases e1 : a = p
    · rw [if_pos e1] at e; cases e
    · rw [if_neg e1] at e
      by_cases e2 : a = q
      · rw [if_pos e2] at e
        rw [if_pos e, e2]
      · rw [if_neg e2] at e
        by_cases e3 : hp_r G q 6 = some a
        · rw [if_pos e3] at e; cases e
        · rw [if_neg e3] at e
          have er := h.1.2.2 a ha e
          rw [if_neg (fun v => e1 (er.trans (h.1.2.2 p hp v).symm))]
          exact er
  · by_cases e1 : a = p
    · rw [e1]
      refine ⟨hk p hp, ⟨(by dsimp only; (repeat' split) <;> omega), (by dsimp only; (repeat' split) <;> omega)⟩, fun b hb => ?_, fun b hb => ?_, fun b hb => ?_⟩
      · rw [hU, if_pos rfl] at hb
        obtain ⟨b1, b2, b3, b4⟩ := tq.2.2.2.1 b hb
        obtain ⟨n1, n2⟩ := dq b hb
        exact ⟨b1, by rw [hP, if_neg n1, if_neg n2, if_pos hb], (by dsimp only; (repeat' split) <;> omega), (by dsimp only; (repeat' split) <;> omega)⟩
      · rw [hD, if_neg npq, if_neg (fun v => (pu p v.1).2.1 rfl)] at hb
        obtain ⟨b1, b2, b3, b4⟩ := tp.2.2.2.1 b hb
        have n1 : b ≠ p := fun e => by rw [e] at b3 b4; omega
        have n2 : b ≠ q := fun e => by rw [e] at b3 b4; omega
        have n3 : hp_r G q 6 ≠ some b := fun v => by
          have t := (tq.2.2.2.1 b v).2.1
          rw [b2] at t
          exact npq (Option.some.inj t)
        exact ⟨b1, by rw [hP, if_neg n1, if_neg n2, if_neg n3]; exact b2, (by dsimp only; (repeat' split) <;> omega), (by dsimp only; (repeat' split) <;> omega)⟩
      · rw [hP, if_pos rfl] at hb
        have eb : b = q := (Option.some.inj hb).symm
        rw [eb]
        exact ⟨hqN, Or.inr (by rw [hD, if_pos rfl])⟩
    by_cases e2 : a = q
    · rw [e2]
      refine ⟨hk q hqN, ⟨(by dsimp only; (repeat' split) <;> omega), (by dsimp only; (repeat' split) <;> omega)⟩, fun b hb => ?_, fun b hb => ?_, fun b hb => ?_⟩
      · rw [hU, if_neg npq.symm, if_neg (fun v => (pu q v.1).2.2.1 rfl)] at hb
        obtain ⟨b1, b2, b3, b4⟩ := tq.2.2.1 b hb
        have n1 : b ≠ p := fun e => by rw [e] at b3 b4; omega
        have n2 : b ≠ q := fun e => by rw [e] at b3 b4; omega
        have n3 : hp_r G q 6 ≠ some b := fun v => by
          obtain ⟨-, -, t3, t4⟩ := tq.2.2.2.1 b v
          omega
        exact ⟨b1, by rw [hP, if_neg n1, if_neg n2, if_neg n3]; exact b2, (by dsimp only; (repeat' split) <;> omega), (by dsimp only; (repeat' split) <;> omega)⟩
      · rw [hD, if_pos rfl] at hb
        have eb : b = p := (Option.some.inj hb).symm
        rw [eb]
        exact ⟨hp, by rw [hP, if_pos rfl], (by dsimp only; (repeat' split) <;> omega), (by dsimp only; (repeat' split) <;> omega)⟩
      · rw [hP, if_neg npq.symm, if_pos rfl] at hb
        obtain ⟨u1, u2, u3, u4⟩ := pu b hb
        refine ⟨u1, ?_⟩
        rcases u4 with v | v
        · exact Or.inl (by rw [hU, if_neg u2, if_pos ⟨hb, v⟩])
        · exact Or.inr (by rw [hD, if_neg u3, if_pos ⟨hb, v⟩])
    · have ta := h.2 a ha
      have wa := ta.2.1
      refine ⟨hk a ha, ⟨(by dsimp only; (repeat' split) <;> omega), (by dsimp only; (repeat' split) <;> omega)⟩, fun b hb => ?_, fun b hb => ?_, fun b hb => ?_⟩
      · rw [hU, if_neg e1] at hb
        by_cases e3 : hp_r G p 4 = some a ∧ hp_r G a 5 = some p
        · rw [if_pos e3] at hb
          have eb : b = q := (Option.some.inj hb).symm
          obtain ⟨-, -, c3, c4⟩ := ta.2.2.1 p e3.2
          rw [eb]
          exact ⟨hqN, by rw [hP, if_neg npq.symm, if_pos rfl]; exact e3.1, (by dsimp only; (repeat' split) <;> omega), (by dsimp only; (repeat' split) <;> omega)⟩
        · rw [if_neg e3] at hb
          obtain ⟨b1, b2, b3, b4⟩ := ta.2.2.1 b hb
          have n1 : b ≠ p := fun e => e3 ⟨by rw [← e]; exact b2, by rw [hb, e]⟩
          have n2 : b ≠ q := fun e => e1 (oq a ha (Or.inl (by rw [hb, e])))
          have n3 : hp_r G q 6 ≠ some b := fun v => e2 (ob a ha b (Or.inl hb) v)
          exact ⟨b1, by rw [hP, if_neg n1, if_neg n2, if_neg n3]; exact b2, (by dsimp only; (repeat' split) <;> omega), (by dsimp only; (repeat' split) <;> omega)⟩
      · rw [hD, if_neg e2] at hb
        by_cases e3 : hp_r G p 4 = some a ∧ hp_r G a 6 = some p
        · rw [if_pos e3] at hb
          have eb : b = q := (Option.some.inj hb).symm
          obtain ⟨-, -, c3, c4⟩ := ta.2.2.2.1 p e3.2
          rw [eb]
          exact ⟨hqN, by rw [hP, if_neg npq.symm, if_pos rfl]; exact e3.1, (by dsimp only; (repeat' split) <;> omega), (by dsimp only; (repeat' split) <;> omega)⟩
        · rw [if_neg e3] at hb
          obtain ⟨b1, b2, b3, b4⟩ := ta.2.2.2.1 b hb
          have n1 : b ≠ p := fun e => e3 ⟨by rw [← e]; exact b2, by rw [hb, e]⟩
          have n2 : b ≠ q := fun e => e1 (oq a ha (Or.inr (by rw [hb, e])))
          have n3 : hp_r G q 6 ≠ some b := fun v => e2 (ob a ha b (Or.inr hb) v)
          exact ⟨b1, by rw [hP, if_neg n1, if_neg n2, if_neg n3]; exact b2, (by dsimp only; (repeat' split) <;> omega), (by dsimp only; (repeat' split) <;> omega)⟩
      · rw [hP, if_neg e1, if_neg e2] at hb
        by_cases e3 : hp_r G q 6 = some a
        · rw [if_pos e3] at hb
          have eb : b = p := (Option.some.inj hb).symm
          rw [eb]
          exact ⟨hp, Or.inl (by rw [hU, if_pos rfl]; exact e3)⟩
        · rw [if_neg e3] at hb
          obtain ⟨u1, u2⟩ := ta.2.2.2.2 b hb
          refine ⟨u1, ?_⟩
          rcases u2 with v | v
          · exact Or.inl (by rw [hU, if_neg (fun e => e2 (by rw [e, hq] at v; exact (Option.some.inj v).symm)), if_neg (fun t => e1 (Option.some.inj (v.symm.trans t.2)))]; exact v)
          · exact Or.inr (by rw [hD, if_neg (fun e => e3 (by rw [← e]; exact v)), if_neg (fun t => e1 (Option.some.inj (v.symm.trans t.2)))]; exact v)
theorem J26_rotateRight_C {p q : Nat} (h : tr G N r ps lo hi) (hA : ∀ a ∈ N, hp_A w a) (hp : p ∈ N) (hq : hp_r G p 5 = some q) : wk_C w mJ26_rotateRight d 0 [vR (some r), vR (some p)] G (fun v G' => v = some (vR (some (if hp_r G p 4 = none then q else r))) ∧ rot G G' p q 5 6 ∧ rk N G G' ∧ ∀ x, hp_i G' x 8 = 0 ∨ hp_i G' x 8 = hp_i G x 8) (fun _ _ _ => False) := by
  have tp := h.2 p hp
  obtain ⟨hqN, q4, ql, qh⟩ := tp.2.2.1 q hq
  have tq := h.2 q hqN
  have wp := tp.2.1
  have wq := tq.2.1
  have npq : p ≠ q := fun e => by rw [← e] at ql qh; omega
  have dq : ∀ b, hp_r G q 6 = some b → b ≠ p ∧ b ≠ q := fun b hb => by
    obtain ⟨b1, b2, b3, b4⟩ := tq.2.2.2.1 b hb
    refine ⟨fun e => ?_, fun e => ?_⟩
    · rw [e] at b3 b4; omega
    · rw [e] at b3 b4; omega
  have pu : ∀ u, hp_r G p 4 = some u → u ∈ N ∧ u ≠ p ∧ u ≠ q ∧ ((hp_r G u 5 = some p ∧ hp_r G u 6 ≠ some p) ∨ (hp_r G u 6 = some p ∧ hp_r G u 5 ≠ some p)) := fun u hu => by
    obtain ⟨u1, u2, u3, u4, u5⟩ := tp.par h.2 hu
    have wu := (h.2 u u1).2.1
    refine ⟨u1, fun e => ?_, fun e => ?_, u5.imp (fun v => ⟨v.1, fun t => ?_⟩) (fun v => ⟨v.1, fun t => ?_⟩)⟩
    · rw [e] at u2 u3 u4; omega
    · rw [e] at u2 u3 u4; omega
    · obtain ⟨-, -, t3, t4⟩ := (h.2 u u1).2.2.2.1 p t
      omega
    · obtain ⟨-, -, t3, t4⟩ := (h.2 u u1).2.2.1 p t
      omega
  have kp := tp.1
  have kq := tq.1
  refine wk_C_of (by decide) rfl (Nat.le_of_ble_eq_true rfl) ?_
  have fin : ∀ (Gn : GH) (R : Nat), R = (if hp_r G p 4 = none then q else r) → rk N G Gn → (∀ x, hp_i Gn x 8 = 0 ∨ hp_i Gn x 8 = hp_i G x 8) → (∀ x, hp_r Gn x 4 = if x = q then hp_r G p 4 else if hp_r G q 6 = some x then some p else hp_r G x 4) → (∀ x, hp_r Gn x 6 = if hp_r G p 4 = some x ∧ hp_r G x 6 = some p then some q else hp_r G x 6) → (∀ x, hp_r Gn x 5 = if x = p then hp_r G q 6 else if hp_r G p 4 = some x ∧ hp_r G x 5 = some p then some q else hp_r G x 5) →
      wk_V w mJ26_rotateRight (d, 0, (fun v G' => v = some (vR (some (if hp_r G p 4 = none then q else r))) ∧ rot G G' p q 5 6 ∧ rk N G G' ∧ ∀ x, hp_i G' x 8 = 0 ∨ hp_i G' x 8 = hp_i G x 8), (fun _ _ _ => False), hp_cs G, hp_ss G) 79 [(0, vR (some R)), (1, vR (some p)), (2, vR (some q))] [] Gn 0 := by
    intro Gn R hR hrk h8 n4 nD nU
    have kp' : hp_kd Gn p = 25 := by rw [hrk.1.kd (by rw [kp]; decide)]; exact kp
    have kq' : hp_kd Gn q = 25 := by rw [hrk.1.kd (by rw [kq]; decide)]; exact kq
    refine blJ26_rotateRight_79 rfl kq' (hA q hqN) rfl kp' (hA p hp) (blJ26_rotateRight_89 ⟨by rw [hR], ⟨fun x => ?_, fun x => ?_, fun x => ?_⟩, (hrk.sR hqN (by decide)).sR hp (by decide), h8⟩)
    · rw [hp_r_sR, hp_r_sR, n4 x]
      by_cases e1 : x = p
      · rw [if_pos e1, if_pos rfl, if_pos e1]
      · rw [if_neg e1, if_neg e1]
        by_cases e2 : x = q
        · rw [if_pos e2, if_neg (by decide), if_pos e2]
        · rw [if_neg e2, if_neg e2]
    · rw [hp_r_sR, hp_r_sR, nD x]
      by_cases e1 : x = p
      · have e2 : x ≠ q := fun t => npq (e1.symm.trans t)
        rw [if_pos e1, if_neg (by decide), if_neg e2, if_neg e2]
      · rw [if_neg e1]
        by_cases e2 : x = q
        · rw [if_pos e2, if_pos rfl, if_pos e2]
        · rw [if_neg e2, if_neg e2]
    · rw [hp_r_sR, hp_r_sR, nU x]
      by_cases e1 : x = p
      · have e2 : x ≠ q := fun t => npq (e1.symm.trans t)
        rw [if_pos e1, if_neg (by decide), if_neg e2, if_pos e1]
      · rw [if_neg e1]
        by_cases e2 : x = q
        · rw [if_pos e2, if_neg (by decide)]
        · rw [if_neg e2]
  have mid : ∀ (Gm : GH), rk N G Gm → (∀ x, hp_i Gm x = hp_i G x) → (∀ x, hp_r Gm x 4 = if hp_r G q 6 = some x then some p else hp_r G x 4) → (∀ x, hp_r Gm x 6 = hp_r G x 6) → (∀ x, hp_r Gm x 5 = if x = p then hp_r G q 6 else hp_r G x 5) →
      wk_V w mJ26_rotateRight (d, 0, (fun v G' => v = some (vR (some (if hp_r G p 4 = none then q else r))) ∧ rot G G' p q 5 6 ∧ rk N G G' ∧ ∀ x, hp_i G' x 8 = 0 ∨ hp_i G' x 8 = hp_i G x 8), (fun _ _ _ => False), hp_cs G, hp_ss G) 34 [(0, vR (some r)), (1, vR (some p)), (2, vR (some q))] [] Gm 0 := by
    intro Gm hrk hi8 m4 mD mU
    have kp' : hp_kd Gm p = 25 := by rw [hrk.1.kd (by rw [kp]; decide)]; exact kp
    have kq' : hp_kd Gm q = 25 := by rw [hrk.1.kd (by rw [kq]; decide)]; exact kq
    have ep : hp_r Gm p 4 = hp_r G p 4 := by rw [m4, if_neg (fun e => (dq p e).1 rfl)]
    have l4 : ∀ x, hp_r (hp_sR Gm q 4 (hp_r G p 4)) x 4 = if x = q then hp_r G p 4 else if hp_r G q 6 = some x then some p else hp_r G x 4 := fun x => by
      rw [hp_r_sR, m4 x]
      by_cases e2 : x = q
      · rw [if_pos e2, if_pos rfl, if_pos e2]
      · rw [if_neg e2, if_neg e2]
    have lk : ∀ x k, k ≠ 4 → hp_r (hp_sR Gm q 4 (hp_r G p 4)) x k = hp_r Gm x k := fun x k hk => by
      rw [hp_r_sR]
      split
      · first | rfl | rw [if_neg hk]
      · rfl
    have hrk2 : rk N G (hp_sR Gm q 4 (hp_r G p 4)) := hrk.sR hqN (by decide)
    refine blJ26_rotateRight_34 rfl kp' rfl kq' (hA q hqN) (fun u hu => ?_) (fun hn => ?_)
    · rw [ep] at hu ⊢
      obtain ⟨u1, u2, u3, u4⟩ := pu u hu
      have ku' : hp_kd (hp_sR Gm q 4 (hp_r G p 4)) u = 25 := by rw [hp_kd_sR, hrk.1.kd (by rw [(h.2 u u1).1]; decide)]; exact (h.2 u u1).1
      have eS : hp_r (hp_sR Gm q 4 (hp_r G p 4)) u 6 = hp_r G u 6 := by
        rw [lk u 6 (by decide), mD]
      have sm : ∀ x y, hp_r G p 4 = some x → hp_r G p 4 = some y → x = y := fun x y a b => Option.some.inj (a.symm.trans b)
      refine blJ26_rotateRight_58 hu ku' (fun hne => ?_) (fun he => ?_)
      · rw [eS] at hne
        have hO : hp_r G u 5 = some p := u4.elim (fun t => t.1) (fun t => absurd t.1 hne)
        refine blJ26_rotateRight_74 hu ku' (hA u u1) (fin _ r ?_ (hrk2.sR u1 (by decide)) (fun x => Or.inr (by rw [hp_i_sR, hp_i_sR, hi8])) (fun x => ?_) (fun x => ?_) (fun x => ?_))
        · rw [hu, if_neg (by intro t; cases t)]
        · rw [hp_r_sR]
          by_cases ex : x = u
          · rw [if_pos ex, if_neg (by decide)]; exact l4 x
          · rw [if_neg ex]; exact l4 x
        · rw [hp_r_sR, lk x 6 (by decide), mD]
          by_cases ex : x = u
          · rw [if_pos ex, if_neg (by decide), if_neg (fun t => hne (by rw [← ex]; exact t.2))]
          · rw [if_neg ex, if_neg (fun t => ex (sm x u t.1 hu))]
        · rw [hp_r_sR, lk x 5 (by decide), mU]
          by_cases ex : x = u
          · rw [if_pos ex, if_pos rfl, if_neg (by rw [ex]; exact u2), if_pos ⟨by rw [ex]; exact hu, by rw [ex]; exact hO⟩]
          · rw [if_neg ex]
            by_cases e1 : x = p
            · rw [if_pos e1, if_pos e1]
            · rw [if_neg e1, if_neg e1, if_neg (fun t => ex (sm x u t.1 hu))]
      · rw [eS] at he
        have hO : hp_r G u 5 ≠ some p := u4.elim (fun t => absurd he t.2) (fun t => t.2)
        refine blJ26_rotateRight_66 hu ku' (hA u u1) (fin _ r ?_ (hrk2.sR u1 (by decide)) (fun x => Or.inr (by rw [hp_i_sR, hp_i_sR, hi8])) (fun x => ?_) (fun x => ?_) (fun x => ?_))
        · rw [hu, if_neg (by intro t; cases t)]
        · rw [hp_r_sR]
          by_cases ex : x = u
          · rw [if_pos ex, if_neg (by decide)]; exact l4 x
          · rw [if_neg ex]; exact l4 x
        · rw [hp_r_sR, lk x 6 (by decide), mD]
          by_cases ex : x = u
          · rw [if_pos ex, if_pos rfl, if_pos ⟨by rw [ex]; exact hu, by rw [ex]; exact he⟩]
          · rw [if_neg ex, if_neg (fun t => ex (sm x u t.1 hu))]
        · rw [hp_r_sR, lk x 5 (by decide), mU]
          by_cases ex : x = u
          · rw [if_pos ex, if_neg (by decide), if_neg (by rw [ex]; exact u2), if_neg (by rw [ex]; exact u2), if_neg (fun t => hO (by rw [← ex]; exact t.2))]
          · rw [if_neg ex]
            by_cases e1 : x = p
            · rw [if_pos e1, if_pos e1]
            · rw [if_neg e1, if_neg e1, if_neg (fun t => ex (sm x u t.1 hu))]
    · rw [ep] at hn ⊢
      refine blJ26_rotateRight_48 rfl (by rw [hp_kd_sR]; exact kq') (hA q hqN) (fin _ q (by rw [if_pos hn]) (hrk2.sI hqN) (fun x => ?_) (fun x => ?_) (fun x => ?_) (fun x => ?_))
      · rw [hp_i_sI, hp_i_sR, hi8]
        split
        · rw [if_pos rfl]; exact Or.inl rfl
        · exact Or.inr rfl
      · rw [hp_r_sI]; exact l4 x
      · rw [hp_r_sI, lk x 6 (by decide), mD, if_neg (fun t => by rw [hn] at t; cases t.1)]
      · rw [hp_r_sI, lk x 5 (by decide), mU]
        by_cases e1 : x = p
        · rw [if_pos e1, if_pos e1]
        · rw [if_neg e1, if_neg e1, if_neg (fun t => by rw [hn] at t; cases t.1)]
  refine blJ26_rotateRight_0 (fun e => by cases e) (fun _ _ => ?_)
  refine blJ26_rotateRight_4 rfl kp (fun e => by rw [hq] at e; cases e) (fun _ _ => ?_)
  rw [hq]
  have g1 : rk N G (hp_sR G p 5 (hp_r G q 6)) := rk.id0.sR hp (by decide)
  have gU : ∀ x, hp_r (hp_sR G p 5 (hp_r G q 6)) x 5 = if x = p then hp_r G q 6 else hp_r G x 5 := fun x => by
    rw [hp_r_sR]
    split
    · rw [if_pos rfl]
    · rfl
  have gk : ∀ x k, k ≠ 5 → hp_r (hp_sR G p 5 (hp_r G q 6)) x k = hp_r G x k := fun x k hk => by
    rw [hp_r_sR]
    split
    · first | rfl | rw [if_neg hk]
    · rfl
  refine blJ26_rotateRight_13 rfl kq rfl kp (hA p hp) (fun e => ?_) (fun b hb => ?_)
  · refine mid _ g1 (fun x => rfl) (fun x => ?_) (fun x => gk x 6 (by decide)) gU
    rw [gk x 4 (by decide), if_neg (fun t => by rw [e] at t; cases t)]
  · obtain ⟨b1, b2, b3, b4⟩ := tq.2.2.2.1 b hb
    refine blJ26_rotateRight_28 hb (by rw [hp_kd_sR]; exact (h.2 b b1).1) (hA b b1) (mid _ (g1.sR b1 (by decide)) (fun x => rfl) (fun x => ?_) (fun x => ?_) (fun x => ?_))
    · rw [hp_r_sR, gk x 4 (by decide)]
      by_cases ex : x = b
      · rw [if_pos ex, if_pos rfl, if_pos (by rw [ex]; exact hb)]
      · rw [if_neg ex, if_neg (fun t => ex (Option.some.inj (t.symm.trans hb)))]
    · rw [hp_r_sR, gk x 6 (by decide)]
      split
      · rw [if_neg (by decide)]
      · rfl
    · rw [hp_r_sR, gU]
      split
      · rw [if_neg (by decide)]
      · rfl
end
