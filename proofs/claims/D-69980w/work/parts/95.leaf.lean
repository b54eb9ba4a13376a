/-! leaves of the graph of causes -/
set_option maxRecDepth 100000
def md_cause (σ : MS) (v : Int32) : MS := if nI 60000 ≤ σ.1 67 then σ else ml_sa (ml_sf σ 67 (σ.1 67 + 1)) 66 (σ.1 67).toNatClampNeg v
/-- the instances below n: the one around is older -/
def md_in (σ : MS) (n : Nat) : Prop := ∀ x, x < n → σ.2 57 x < 0 ∨ ∃ y e, y < x ∧ e < 66000 ∧ σ.2 57 x = nI y ∧ σ.2 58 x = nI e
/-- the variable of the clock c, seen from the instance x -/
def md_cv (σ : MS) : Nat → Nat → Int32 → Int32
  | 0, _, _ => -1
  | f + 1, x, c => if c = -1 then (if σ.2 57 x < 0 then -1 else md_cv σ f (σ.2 57 x).toNatClampNeg (σ.2 43 (σ.2 58 x).toNatClampNeg)) else σ.2 59 x + c / 2
section
variable {z : MZ} {d : Nat} {σ : MS}
theorem X6_cause_C {v : Int32} (h : ¬ σ.1 67 < 0) : ml_C z mX6_cause d 0 [vR (some z.2.1), vI v] σ (fun u σ' _ => u = none ∧ σ' = md_cause σ v) (fun _ _ _ => False) := by
  refine ml_C_of (by decide) rfl (Nat.le_of_ble_eq_true rfl) ?_
  refine mbcause_0 (fun q => mbcause_29 (fun G _ => ⟨rfl, by rw [md_cause, if_pos q]⟩)) (fun q => ?_)
  refine mbcause_12 (fun u => u.elim h (fun u => q ?_)) (mbcause_29 (fun G _ => ⟨rfl, by rw [md_cause, if_neg q]⟩))
  obtain ⟨t, ht, e⟩ := nI_of h
  rw [e] at u ⊢
  rw [nI_clamp ht] at u
  exact (nI_leI (by decide) ht).2 u
theorem argument_V {jm : MJ} {i : Nat} : ∀ (ks : List Nat) (j : Nat) (x : Int32) (E : GH → Prop), i < j + ks.length → j ≤ i → i < 2 ^ 30 → md_ch (σ.2 35) x ks → (∀ k ∈ ks, k < 66000) → (∀ G, jm.2.2.1 (some (vI (nI (ks.getD (i - j) 0)))) σ G) → ml_V z mX6_argument jm 10 [(0, vR (some z.2.1)), (2, vI (nI i)), (3, vI x), (4, vI (nI j))] [] σ E jm.2.1
  | [], j, x, E, h1, h2, _, _, _, _ => by simp at h1; omega
  | k :: ks, j, x, E, h1, h2, h3, hc, hk, hP => by
    obtain ⟨rfl, hc⟩ := hc
    have hk0 := hk k List.mem_cons_self
    refine mbargument_10 (fun q => ?_) (fun q => ?_)
    · have e : i = j := by
        have := (nI_leI (by omega) (by omega)).1 q
        omega
      subst e
      refine mbargument_29 (fun G _ => ?_)
      have := hP G
      rw [Nat.sub_self] at this
      exact this
    · have hlt : j < i := by
        rcases Nat.lt_or_ge j i with u | u
        · exact u
        · exact absurd ((nI_leI (by omega) (by omega)).2 u) q
      refine mbargument_16 (vp_in_nI hk0 (by decide)) ?_
      rw [nI_clamp (by omega), nI_1]
      refine argument_V ks (j + 1) _ _ (by simp at h1; omega) hlt h3 hc (fun q hq => hk q (List.mem_cons_of_mem _ hq)) (fun G => ?_)
      have := hP G
      rw [show i - j = (i - (j + 1)) + 1 by omega] at this
      exact this
theorem X6_argument_C {e i : Nat} {ks : List Nat} (he : e < 66000) (hc : md_ch (σ.2 35) (σ.2 34 e) ks) (hk : ∀ k ∈ ks, k < 66000) (hi : i < ks.length) (hi2 : i < 2 ^ 30) : ml_C z mX6_argument d 0 [vR (some z.2.1), vI (nI e), vI (nI i)] σ (fun u σ' _ => u = some (vI (nI (ks.getD i 0))) ∧ σ' = σ) (fun _ _ _ => False) := by
  refine ml_C_of (by decide) rfl (Nat.le_of_ble_eq_true rfl) ?_
  refine mbargument_0 (vp_in_nI he (by decide)) ?_
  rw [nI_clamp (by omega), show (0 : Int32) = nI 0 from rfl]
  exact argument_V ks 0 _ _ (by omega) (Nat.zero_le _) hi2 hc hk (fun G => ⟨rfl, rfl⟩)
theorem clockVariable_V {jm : MJ} {n : Nat} (hn : n ≤ 3200) (hI : md_in σ n) : ∀ f x c E, x < f → x < n → (∀ G, jm.2.2.1 (some (vI (md_cv σ f x c))) σ G) → ml_V z mX6_clockVariable jm 5 [(0, vR (some z.2.1)), (3, vI (nI x)), (4, vI c)] [] σ E jm.2.1 := by
  intro f
  induction f with
  | zero => intro x c E h; omega
  | succ f ih =>
    intro x c E hx hxn hP
    have cx : (nI x).toNatClampNeg = x := nI_clamp (by omega)
    have vx : vp_in (nI x) 3200 := vp_in_nI (by omega) (by decide)
    rw [md_cv] at hP
    refine mbclockVariable_5 (fun q => ?_) (fun q => ?_)
    · rw [if_neg q] at hP
      refine mbclockVariable_43 (fun _ => mbclockVariable_53 vx (by decide) (mbclockVariable_64 (fun G _ => ?_))) (fun u => absurd u q)
      rw [cx]
      exact hP G
    · rw [if_pos q] at hP
      refine mbclockVariable_11 vx (fun q2 => ?_) (fun q2 => ?_)
      · rw [cx] at q2
        rw [if_pos q2] at hP
        exact mbclockVariable_43 (fun u => absurd q u) (fun _ => mbclockVariable_49 (mbclockVariable_64 (fun G _ => hP G)))
      · rw [cx] at q2
        rw [if_neg q2] at hP
        obtain ⟨y, e, h1, h2, h3, h4⟩ := (hI x hxn).resolve_left q2
        refine mbclockVariable_20 vx (by rw [cx, h4]; exact vp_in_nI h2 (by decide)) ?_
        rw [h3, nI_clamp (n := y) (by omega)] at hP
        rw [cx, h3]
        exact ih y _ _ (by omega) (by omega) hP
theorem X6_clockVariable_C {n x : Nat} {c : Int32} (hn : n ≤ 3200) (hI : md_in σ n) (hx : x < n) : ml_C z mX6_clockVariable d 0 [vR (some z.2.1), vI (nI x), vI c] σ (fun u σ' _ => u = some (vI (md_cv σ (x + 1) x c)) ∧ σ' = σ) (fun _ _ _ => False) := by
  refine ml_C_of (by decide) rfl (Nat.le_of_ble_eq_true rfl) ?_
  exact mbclockVariable_0 (clockVariable_V hn hI (x + 1) x c _ (by omega) hx (fun G => ⟨rfl, rfl⟩))
end
