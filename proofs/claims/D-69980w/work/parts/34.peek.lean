/-! parts, sign, peek, take of the reference -/
set_option maxRecDepth 100000
theorem lx_eol_V {z : MZ} {jm : MJ} {n : Nat} {σ : MS} (hn : n ≤ 65536) (hs : σ.1 1 = nI n) (e : Nat) (K : ∀ E, ml_V z mX6_parts jm 118 [(0, vR (some z.2.1))] [] (ml_sf σ 5 (nI e)) E jm.2.1) : ∀ f p E, n ≤ p + f → p ≤ n → lx_eol (σ.2 0) n p = e → ml_V z mX6_parts jm 42 [(0, vR (some z.2.1))] [] (ml_sf σ 5 (nI p)) E jm.2.1 := by
  intro f
  induction f with
  | zero =>
    intro p E h1 h2 he
    refine mbparts_42 (fun _ => ?_) (fun h => absurd ?_ h)
    · have h3 : e = p := by rw [← he, lx_eol_0 (by omega)]
      subst h3
      exact K E
    · show σ.1 1 ≤ nI p
      rw [hs]
      exact nI_le (by omega) (by omega)
  | succ f ih =>
    intro p E h1 h2 he
    refine mbparts_42 (fun h => ?_) (fun h => ?_)
    · have h' : nI n ≤ nI p := by rw [← hs]; exact h
      have h4 := (nI_leI (by omega) (by omega)).1 h'
      have h3 : e = p := by rw [← he, lx_eol_0 (by omega)]
      subst h3
      exact K E
    · have h' : ¬ nI n ≤ nI p := by rw [← hs]; exact h
      have hpn : p < n := Nat.lt_of_not_le (fun q => h' (nI_le q (by omega)))
      have hcl : (nI p).toNatClampNeg = p := nI_clamp (by omega)
      refine mbparts_53 (vp_in_nI (by omega) (by decide)) (fun h => ?_) (fun h => ?_)
      · have h5 : σ.2 0 (nI p).toNatClampNeg = 10 := h
        rw [hcl] at h5
        have h3 : e = p := by rw [← he, lx_eol_0 (fun q => q.2 h5)]
        subst h3
        exact K E
      · have h5 : ¬ σ.2 0 (nI p).toNatClampNeg = 10 := h
        rw [hcl] at h5
        refine mbparts_67 ?_
        have h6 : ml_sf (ml_sf σ 5 (nI p)) 5 ((ml_sf σ 5 (nI p)).1 5 + 1) = ml_sf σ 5 (nI (p + 1)) := by
          rw [ml_sf_sf, ← nI_1]
          rfl
        rw [h6]
        exact ih (p + 1) _ (by omega) (by omega) (by rw [← he, lx_eol_1 ⟨hpn, h5⟩])
theorem lx_parts_V {z : MZ} {jm : MJ} {n c : Nat} {σ : MS} (hn : n ≤ 65536) (hs : σ.1 1 = nI n) (hd : 1 ≤ jm.1) (hP : ∀ G, jm.2.2.1 none (ml_sf σ 5 (nI c)) G) : ∀ f p E, n ≤ p + f → p ≤ n → lx_skip (σ.2 0) n p = c → ml_V z mX6_parts jm 0 [(0, vR (some z.2.1))] [] (ml_sf σ 5 (nI p)) E jm.2.1 := by
  intro f
  induction f with
  | zero =>
    intro p E h1 h2 hc
    refine mbparts_0 (fun _ => mbparts_121 (fun G _ => ?_)) (fun h => absurd ?_ h)
    · have h3 : c = p := by rw [← hc, lx_skip_e (by omega)]
      subst h3
      exact hP G
    · show σ.1 1 ≤ nI p
      rw [hs]
      exact nI_le (by omega) (by omega)
  | succ f ih =>
    intro p E h1 h2 hc
    refine mbparts_0 (fun h => mbparts_121 (fun G _ => ?_)) (fun h => ?_)
    · have h' : nI n ≤ nI p := by rw [← hs]; exact h
      have h4 := (nI_leI (by omega) (by omega)).1 h'
      have h3 : c = p := by rw [← hc, lx_skip_e (by omega)]
      subst h3
      exact hP G
    have h' : ¬ nI n ≤ nI p := by rw [← hs]; exact h
    have hpn : p < n := Nat.lt_of_not_le (fun q => h' (nI_le q (by omega)))
    have hcl : (nI p).toNatClampNeg = p := nI_clamp (by omega)
    have hb : (ml_sf σ 5 (nI p)).2 0 ((ml_sf σ 5 (nI p)).1 5).toNatClampNeg = σ.2 0 p := by
      show σ.2 0 (nI p).toNatClampNeg = _
      rw [hcl]
    have t80 : ∀ E, ¬ (σ.2 0 p = 45 ∧ lx_at (σ.2 0) n (p + 1) = 45) → ml_V z mX6_parts jm 80 [(0, vR (some z.2.1)), (1, vI (σ.2 0 p))] [] (ml_sf σ 5 (nI p)) E jm.2.1 := by
      intro E hr
      have go : ∀ E, (σ.2 0 p = 32 ∨ σ.2 0 p = 9 ∨ σ.2 0 p = 10 ∨ σ.2 0 p = 13) → ml_V z mX6_parts jm 104 [(0, vR (some z.2.1))] [] (ml_sf σ 5 (nI p)) E jm.2.1 := by
        intro E hw
        refine mbparts_104 (mbparts_118 ?_)
        have h6 : ml_sf (ml_sf σ 5 (nI p)) 5 ((ml_sf σ 5 (nI p)).1 5 + 1) = ml_sf σ 5 (nI (p + 1)) := by
          rw [ml_sf_sf, ← nI_1]
          rfl
        rw [h6]
        exact ih (p + 1) _ (by omega) (by omega) (by rw [← hc, lx_skip_b hpn hw])
      refine mbparts_80 (fun q => go _ (Or.inl q)) (fun q1 => ?_)
      refine mbparts_86 (fun q => go _ (Or.inr (Or.inl q))) (fun q2 => ?_)
      refine mbparts_92 (fun q => go _ (Or.inr (Or.inr (Or.inl q)))) (fun q3 => ?_)
      refine mbparts_98 (fun q4 => mbparts_117 (fun G _ => ?_)) (fun q => go _ (Or.inr (Or.inr (Or.inr q))))
      have h3 : c = p := by
        rw [← hc, lx_skip_n hr]
        rintro (q | q | q | q)
        · exact q1 q
        · exact q2 q
        · exact q3 q
        · exact q4 q
      subst h3
      exact hP G
    refine mbparts_11 (vp_in_nI (by omega) (by decide)) (fun h => ?_) (fun h => ?_)
    · rw [hb] at h ⊢
      exact t80 _ (fun q => h q.1)
    · rw [hb] at h ⊢
      have h6 : (ml_sf σ 5 (nI p)).1 5 + 1 = nI (p + 1) := by rw [← nI_1]; rfl
      refine mbparts_27 (P := fun v σ' _ => v = some (vI (lx_at (σ.2 0) n (p + 1))) ∧ σ' = ml_sf σ 5 (nI p)) (PX := fun _ _ _ => False) (d' := 0) (b' := 0) ?_ hd (Nat.zero_le _) (fun v σ' => ?_) (fun _ _ _ q => absurd q id)
      · rw [h6]
        exact X6_byteAt_C (σ := ml_sf σ 5 (nI p)) hn hs (by omega)
      · intro G g1 g2 g3
        obtain ⟨rfl, rfl⟩ := g3
        refine (mbparts_37 (E := fun _ => True) (fun q => ?_) (fun q => ?_)) G g1 g2 trivial
        · exact t80 _ (fun u => q u.2)
        · have he := lx_skip_r hpn ⟨h, q⟩
          have e1 : lx_eol (σ.2 0) n p = lx_eol (σ.2 0) n (p + 1) := lx_eol_1 ⟨hpn, by rw [h]; decide⟩
          refine lx_eol_V hn hs (lx_eol (σ.2 0) n (p + 1)) (fun E => mbparts_118 ?_) n p _ (by omega) h2 e1
          have a := lx_eol_ge (T := σ.2 0) (n := n) n (p + 1) (by omega)
          have b := lx_eol_le (T := σ.2 0) (n := n) n (p + 1) (by omega) (by omega)
          exact ih _ _ (by omega) b (by rw [← hc, he])
theorem X6_parts_C {z : MZ} {d n p : Nat} {σ : MS} (hn : n ≤ 65536) (hs : σ.1 1 = nI n) (hp : p ≤ n) (h5 : σ.1 5 = nI p) (hd : 1 ≤ d) : ml_C z mX6_parts d 0 [vR (some z.2.1)] σ (fun v σ' _ => v = none ∧ σ' = ml_sf σ 5 (nI (lx_skip (σ.2 0) n p))) (fun _ _ _ => False) := by
  refine ml_C_of (by decide) rfl (Nat.le_of_ble_eq_true rfl) ?_
  have := lx_parts_V (z := z) (jm := (d, 0, (fun v σ' _ => v = none ∧ σ' = ml_sf σ 5 (nI (lx_skip (σ.2 0) n p))), fun _ _ _ => False)) hn hs hd (fun G => ⟨rfl, rfl⟩) n p (fun _ => True) (by omega) hp rfl
  rw [ml_sf_id h5] at this
  exact this
/-- a sign: of one place, or of two when over 299 -/
def lx_sign (b c : Int32) : Int32 :=
  if b = 40 ∨ b = 41 ∨ b = 58 ∨ b = 59 ∨ b = 44 ∨ b = 43 ∨ b = 42 then b
  else if b = 61 then (if c = 62 then 304 else b)
  else if b = 60 then (if c = 62 then 300 else if c = 61 then 301 else b)
  else if b = 62 then (if c = 61 then 302 else b)
  else if b = 45 then (if c = 62 then 303 else b)
  else 3
