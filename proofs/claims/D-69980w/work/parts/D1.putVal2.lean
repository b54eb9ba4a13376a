/-! putVal: its ends -/
set_option maxRecDepth 100000
/-- what putVal leaves -/
def pv_P (w : WD) (G : GH) (a s : Nat) (m : List Nat → Option Nat) (l : List Nat) (v : Nat) (u : Option WV) (G' : GH) : Prop := u = some (vR (m l)) ∧ hm w G' a (if m l = none then s + 1 else s) (mu m l v) ∧ cf (hm_o G a) G G'
section
variable {w : WD} {d : Nat} {G : GH} {a t k i : Nat}
/-- from 259 on: the new entry is in -/
theorem pv_259 {s r : Nat} {m : List Nat → Option Nat} {l : List Nat} {v b cs ss : Nat} {G3 : GH} (h : hmt w G3 a (s + 1) (mu m l v)) (hne : hp_r G3 a 2 ≠ none) (h4 : hp_i G3 a 4 = nI s) (hml : m l = none) (hs : s ≤ 99) (hf : cf (hm_o G a) G G3) (hA : hp_kd G a = 23) (hcmp : cmp_o w) (hd : 26 ≤ d) (hr : 23 + s ≤ r) :
    wk_V w mJ7_putVal (d, b, pv_P w G a s m l v, (fun _ _ _ => False), cs, ss) 259 [(0, vR (some a)), (5, vI 1)] [] G3 r := by
  have ka := h.1.1
  have aA := h.1.2
  refine blJ7_putVal_259 ka aA ?_
  have e4 : hp_i (hp_sI G3 a 5 (hp_i G3 a 5 + 1)) a 4 = nI s := by rw [hp_i_sI, if_pos rfl, if_neg (by decide)]; exact h4
  rw [e4, nI_1]
  have f0 : cf (fun x => x = a) G3 (hp_sI (hp_sI G3 a 5 (hp_i G3 a 5 + 1)) a 4 (nI (s + 1))) := ((cf.rf (own := fun x => x = a)).sI (Or.inl rfl)).sI (Or.inl rfl)
  have i4 : hp_i (hp_sI (hp_sI G3 a 5 (hp_i G3 a 5 + 1)) a 4 (nI (s + 1))) a 4 = nI (s + 1) := by rw [hp_i_sI, if_pos rfl, if_pos rfl]
  have i6 : hp_i (hp_sI (hp_sI G3 a 5 (hp_i G3 a 5 + 1)) a 4 (nI (s + 1))) a 6 = hp_i G3 a 6 := by rw [hp_i_sI, if_pos rfl, if_neg (by decide), hp_i_sI, if_pos rfl, if_neg (by decide)]
  have ra : ∀ x, hp_r (hp_sI (hp_sI G3 a 5 (hp_i G3 a 5 + 1)) a 4 (nI (s + 1))) x = hp_r G3 x := fun _ => rfl
  generalize hp_sI (hp_sI G3 a 5 (hp_i G3 a 5 + 1)) a 4 (nI (s + 1)) = G4 at f0 i4 i6 ra ⊢
  have st4 : ∀ b m, st w G3 b m → st w G4 b m := fun b m u => st_cf f0 (fun x hx => by rw [hx, ka]; exact ⟨by decide, by decide⟩) u
  have h' : hmt w G4 a (s + 1) (mu m l v) := by
    obtain ⟨-, h2⟩ := h
    refine ⟨⟨by rw [f0.kd (by rw [ka]; decide)]; exact ka, aA⟩, ?_⟩
    rw [ra, i6]
    rcases h2 with ⟨u, -⟩ | ⟨t, k, Lf, Vf, B, q1, q2, q3⟩
    · exact absurd u hne
    · exact Or.inr ⟨t, k, Lf, Vf, B, q1, q2.fr f0 st4 (fun x _ hk e => by rw [e, ka] at hk; omega), q3⟩
  obtain ⟨t, e2⟩ : ∃ t, hp_r G4 a 2 = some t := by
    rw [ra]
    cases e : hp_r G3 a 2 with
    | none => exact absurd e hne
    | some t => exact ⟨t, rfl⟩
  have ka4 := h'.1.1
  have hf4 : cf (hm_o G a) G G4 := hf.tr2 f0 (fun x _ e => Or.inl e)
  have fin : ∀ G5 r', hmt w G5 a (s + 1) (mu m l v) → hp_r G5 a 2 ≠ none → hp_i G5 a 4 = nI (s + 1) → cf (hm_o G a) G G5 → wk_V w mJ7_putVal (d, b, pv_P w G a s m l v, (fun _ _ _ => False), cs, ss) 292 [(0, vR (some a)), (5, vI 1)] [] G5 r' := by
    intro G5 r' g1 g2 g3 g4
    have hC : wk_C w mJ7_afterNodeInsertion 1 0 [vR (some a), vI 1] G5 (fun v G' => v = none ∧ G' = G5) (fun _ _ _ => False) := by
      refine wk_C_of (by decide) rfl (Nat.le_of_ble_eq_true rfl) ?_
      exact wk_sub [] trivial (blJ7_afterNodeInsertion_0 ⟨rfl, rfl⟩)
    refine blJ7_putVal_292 g1.1.1 hC (by show 1 + 1 ≤ d; omega) (Nat.zero_le _) ?_ (fun _ _ _ q => absurd q id)
    rintro v' G6 ⟨rfl, rfl⟩
    refine blJ7_putVal_298 ⟨by rw [hml], ?_, g4⟩
    rw [if_pos hml]
    exact g1.toM g3 (by omega) (fun e => absurd e g2)
  obtain ⟨k, E, u, hb, kt, tA, ot, lt, hk4, hk8, e6, hsum, hm, hEi⟩ := h'.bins e2
  refine blJ7_putVal_280 ka4 (fun _ => fin G4 r h' (by rw [e2]; exact (fun e => by cases e)) i4 hf4) (fun q => ?_)
  refine blJ7_putVal_287 ka4 (J7_resize_C (d := 25) h' (fun t' ht => ?_) (by omega) hcmp (Nat.le_refl 25)) hd (by omega) ?_ (fun _ _ _ q => absurd q id)
  · rw [e2] at ht
    rw [← Option.some.inj ht, lt]
    refine Decidable.byContradiction fun no => q ?_
    have e8 : k = 8 := by
      have : ¬ k ≤ 7 := fun h7 => no (Nat.le_trans (Nat.pow_le_pow_right (by decide) h7) (by decide))
      omega
    rw [e6, e8, Int32.le_iff_toInt_le, nI_toInt (by omega), nI_toInt (by decide)]
    have : (3 * 2 ^ (8 - 2) : Nat) = 192 := by decide
    omega
  · rintro v' G5 ⟨rfl, r1, r2, r3, r4⟩
    refine blJ7_putVal_291 (fin G5 _ r2 r1 (r3.trans i4) (hf4.tr2 r4 (fun x hx e => ?_)))
    rcases e with e | ⟨e1, e3⟩
    · exact Or.inl e
    · by_cases no : hm_o G a x
      · exact no
      · rw [hf4.kd hx] at e3
        exact Or.inr ⟨e1.cg (hf4.l hx no).symm, e3⟩
end
