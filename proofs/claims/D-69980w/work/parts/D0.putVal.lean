/-! putVal, put -/
set_option maxRecDepth 100000
/-- m with l at v -/
def mu (m : List Nat → Option Nat) (l : List Nat) (v : Nat) (l' : List Nat) : Option Nat := if l' = l then some v else m l'
section
variable {w : WD} {d : Nat} {G : GH} {a t k i : Nat}
/-- a bin gets a new entry, or another value -/
theorem hm_upd {E : Nat → List Nat → Nat → Prop} {m : List Nat → Option Nat} {l : List Nat} {v : Nat} (hm : ∀ l' v', m l' = some v' ↔ E (hix k (hx l')) l' v') :
    ∀ l' v', mu m l v l' = some v' ↔ (fun j => if j = hix k (hx l) then (fun l' v' => if l' = l then v' = v else E (hix k (hx l)) l' v') else E j) (hix k (hx l')) l' v' := by
  intro l' v'
  unfold mu
  show (if l' = l then some v else m l') = some v' ↔ (if hix k (hx l') = hix k (hx l) then (fun l' v' => if l' = l then v' = v else E (hix k (hx l)) l' v') else E (hix k (hx l'))) l' v'
  by_cases q : hix k (hx l') = hix k (hx l)
  · rw [if_pos q]
    show (if l' = l then some v else m l') = some v' ↔ (if l' = l then v' = v else E (hix k (hx l)) l' v')
    by_cases e : l' = l
    · rw [if_pos e, if_pos e]
      exact ⟨fun u => (Option.some.inj u).symm, fun u => by rw [u]⟩
    · rw [if_neg e, if_neg e, hm, q]
  · rw [if_neg q, if_neg (fun e => q (by rw [e])), hm]
/-- a bin's new entries -/
def eu (E : List Nat → Nat → Prop) (l : List Nat) (v : Nat) (l' : List Nat) (v' : Nat) : Prop := if l' = l then v' = v else E l' v'
theorem bk_ins {G' : GH} {C C' : List Nat} {L : Nat → List Nat} {V : Nat → Nat} {E : List Nat → Nat → Prop} {q v n : Nat} {l : List Nat} {p : Option Nat} (hm : ∀ y, y ∈ C' ↔ y ∈ q :: C) (nd : C.Nodup) (nd' : C'.Nodup) (hc : hch G' p C') (hq : hn w G' a q l v) (hql : hix k (hx l) = i) (hold : ∀ y ∈ C, hn w G' a y (L y) (V y) ∧ hix k (hx (L y)) = i) (hkind : (∀ y ∈ C', hp_kd G' y = 24) ∨ tbn G' (fun y => if y = q then l else L y) C') (qC : q ∉ C) (hno : ∀ y ∈ C, L y ≠ l) (hinj : ∀ x ∈ C, ∀ y ∈ C, L x = L y → x = y) (hE : ∀ l v, (∃ x, x ∈ C ∧ L x = l ∧ V x = v) ↔ E l v) (hlen : C.length = n) : bk w G' a k i p (eu E l v) (n + 1) := by
  have ne : ∀ y ∈ C, y ≠ q := fun y hy e => qC (by rw [← e]; exact hy)
  have cs : ∀ y, y ∈ C' → y = q ∨ (y ≠ q ∧ y ∈ C) := fun y hy => by
    rcases List.mem_cons.1 ((hm y).1 hy) with e | e
    · exact Or.inl e
    · exact Or.inr ⟨ne y e, e⟩
  refine ⟨C', fun y => if y = q then l else L y, fun y => if y = q then v else V y, hc, ⟨nd', fun y hy => ?_, hkind⟩, fun x hx y hy e => ?_, fun l' v' => ?_, ?_⟩
  · dsimp only
    rcases cs y hy with e | ⟨e, e2⟩
    · rw [if_pos e, if_pos e, e]; exact ⟨hq, hql⟩
    · rw [if_neg e, if_neg e]; exact hold y e2
  · dsimp only at e
    rcases cs x hx with e1 | ⟨e1, e2⟩ <;> rcases cs y hy with e3 | ⟨e3, e4⟩
    · rw [e1, e3]
    · rw [if_pos e1, if_neg e3] at e; exact absurd e.symm (hno y e4)
    · rw [if_neg e1, if_pos e3] at e; exact absurd e (hno x e2)
    · rw [if_neg e1, if_neg e3] at e; exact hinj x e2 y e4 e
  · unfold eu
    by_cases el : l' = l
    · rw [if_pos el]
      constructor
      · rintro ⟨x, hx, h1, h2⟩
        dsimp only at h1 h2
        rcases cs x hx with e1 | ⟨e1, e2⟩
        · rw [if_pos e1] at h2; exact h2.symm
        · rw [if_neg e1] at h1; exact absurd (h1.trans el) (hno x e2)
      · intro h
        exact ⟨q, (hm q).2 List.mem_cons_self, by dsimp only; rw [if_pos rfl, el], by dsimp only; rw [if_pos rfl, h]⟩
    · rw [if_neg el, ← hE]
      constructor
      · rintro ⟨x, hx, h1, h2⟩
        dsimp only at h1 h2
        rcases cs x hx with e1 | ⟨e1, e2⟩
        · rw [if_pos e1] at h1; exact absurd h1.symm el
        · rw [if_neg e1] at h1 h2; exact ⟨x, e2, h1, h2⟩
      · rintro ⟨x, hx, h1, h2⟩
        exact ⟨x, (hm x).2 (List.mem_cons_of_mem _ hx), by dsimp only; rw [if_neg (ne x hx)]; exact h1, by dsimp only; rw [if_neg (ne x hx)]; exact h2⟩
  · rw [← hlen]
    exact ((List.perm_ext_iff_of_nodup nd' (List.nodup_cons.2 ⟨qC, nd⟩)).2 hm).length_eq
/-- another value at a node of a bin -/
theorem bk_val {C : List Nat} {L : Nat → List Nat} {V : Nat → Nat} {E : List Nat → Nat → Prop} {x v n : Nat} {p : Option Nat} (hc : hch G p C) (hb : hbn w G a k L V i C) (hx : x ∈ C) (hinj : ∀ x ∈ C, ∀ y ∈ C, L x = L y → x = y) (hE : ∀ l v, (∃ x, x ∈ C ∧ L x = l ∧ V x = v) ↔ E l v) (hlen : C.length = n) (hv : hp_kd G v ≠ 0 ∧ hp_kd G v < 28) : bk w (hp_sR G x 2 (some v)) a k i p (eu E (L x) v) n := by
  have kx := (hb.2.1 x hx).1.1
  have f1 : cf (fun y => y = x) G (hp_sR G x 2 (some v)) := cf.rf.sR (Or.inl rfl)
  have st1 : ∀ b m, st w G b m → st w (hp_sR G x 2 (some v)) b m := fun b m u => st_cf f1 (fun y hy => by rw [hy]; constructor <;> omega) u
  have rk : ∀ y j, j ≠ 2 → hp_r (hp_sR G x 2 (some v)) y j = hp_r G y j := fun y j hj => by
    rw [hp_r_sR]
    by_cases e : y = x
    · rw [if_pos e, if_neg hj]
    · rw [if_neg e]
  refine ⟨C, L, fun y => if y = x then v else V y, hc.fr3 (fun y _ => rk y 3 (by decide)), ⟨hb.1, fun y hy => ⟨?_, (hb.2.1 y hy).2⟩, ?_⟩, hinj, fun l' v' => ?_, hlen⟩
  · dsimp only
    by_cases e : y = x
    · rw [if_pos e, e]
      obtain ⟨n1, n2, n3, n4, ⟨key, n5, n6⟩, n7⟩ := (hb.2.1 x hx).1
      exact ⟨n1, n2, n3, n4, ⟨key, by rw [rk x 1 (by decide)]; exact n5, st1 _ _ n6⟩, by rw [hp_r_sR, if_pos rfl, if_pos rfl], hv.1, hv.2⟩
    · rw [if_neg e]
      exact (hb.2.1 y hy).1.fr f1 st1 e
  · rcases hb.2.2 with h | ⟨r, xs, ps, lo, hi, q1, q2, q3, q4⟩
    · exact Or.inl h
    · exact Or.inr ⟨r, xs, ps, lo, hi, q1, hpv.fr7 _ _ (fun y _ => rk y 7 (by decide)) q2, q3.fr4 (fun y _ => ⟨rfl, fun j hj => rk y j (by omega)⟩), q4⟩
  · unfold eu
    by_cases el : l' = L x
    · rw [if_pos el]
      constructor
      · rintro ⟨y, hy, h1, h2⟩
        have e : y = x := hinj y hy x hx (h1.trans el)
        dsimp only at h2
        rw [if_pos e] at h2
        exact h2.symm
      · intro h
        exact ⟨x, hx, el.symm, by dsimp only; rw [if_pos rfl, h]⟩
    · rw [if_neg el, ← hE]
      have nx : ∀ y, L y = l' → y ≠ x := fun y h1 e => el (by rw [← h1, e])
      constructor
      · rintro ⟨y, hy, h1, h2⟩
        dsimp only at h2
        rw [if_neg (nx y h1)] at h2
        exact ⟨y, hy, h1, h2⟩
      · rintro ⟨y, hy, h1, h2⟩
        exact ⟨y, hy, h1, by dsimp only; rw [if_neg (nx y h1)]; exact h2⟩
end
