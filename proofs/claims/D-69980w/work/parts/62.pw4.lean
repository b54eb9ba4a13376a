/-! THE PARSER of the reference: the family; enough fuel -/
set_option maxRecDepth 100000
def pq_Lp (z : MZ) (T : Nat → Int32) (n f : Nat) (M : MI) (ml pc rk : Nat) (lv : Nat → Nat → List (Nat × WV)) : Prop :=
  ∀ d D S0 r lo a c p S σ E, d ≤ 40 → 20 * (41 - d) + 40 - rk ≤ D → ps n c S σ → S.2 0 = T → md_px S0 S → pp_pre n ml a [] lo p c S → pp T n f ml d a [] c S = some r → ml_V z M (D, 1, (fun v σ' _ => pq_N n r v σ'), pq_X S0 r) pc (lv d a) [] σ E 1
def pq_F (z : MZ) (T : Nat → Int32) (n f : Nat) : Prop :=
  pq_IH z T n (pp T n f) ∧ pq_Lp z T n f mX6_either 3 6 2 (fun d a => [(0, vR (some z.2.1)), (1, vI (nI d)), (2, vI (nI a))]) ∧ pq_Lp z T n f mX6_both 5 6 4 (fun d a => [(0, vR (some z.2.1)), (1, vI (nI d)), (2, vI (nI a))]) ∧
  pq_Lp z T n f mX6_sum 8 6 7 (fun d a => [(0, vR (some z.2.1)), (1, vI (nI d)), (2, vI (nI a))]) ∧ pq_Lp z T n f mX6_product 10 6 9 (fun d a => [(0, vR (some z.2.1)), (1, vI (nI d)), (2, vI (nI a))]) ∧ pq_Lp z T n f mX6_unary 12 92 11 (fun _ a => [(0, vR (some z.2.1)), (3, vI (nI a))]) ∧
  (∀ k d D S0 r lo l c p S σ E, d ≤ 40 → 20 * (41 - d) + 26 ≤ D → ps n c S σ → S.2 0 = T → md_px S0 S → pp_pre n 15 k l lo p c S → pp T n f 15 d k l c S = some r → ml_V z mX6_call (D, 1, (fun v σ' _ => pq_N n r v σ'), pq_X S0 r) 19 [(0, vR (some z.2.1)), (1, vI (nI k)), (2, vI (nI d)), (3, vI (pm_first l)), (4, vI (nI (l.getLastD 0)))] [] σ E 1)
theorem pp_none {T : Nat → Int32} {n m d a c : Nat} {l : List Nat} {S : MS} {r : PE} (h : pp T n 0 m d a l c S = some r) : False := by
  have h' : (none : Option PE) = some r := h
  cases h'
theorem pq_all {z : MZ} {T : Nat → Int32} {n : Nat} (hw : ml_ws z) : ∀ f, pq_F z T n f := by
  intro f
  induction f with
  | zero =>
    refine ⟨⟨fun m d c S σ r D _ _ _ _ _ h _ => (pp_none h).elim, fun k d c S σ r D _ _ _ _ _ h _ => (pp_none h).elim, fun m a l c S r _ h => (pp_none h).elim, pp_ok pc_cl_T 0⟩, ?_, ?_, ?_, ?_, ?_, ?_⟩
    · exact fun d D S0 r lo a c p S σ E _ _ _ _ _ _ h => (pp_none h).elim
    · exact fun d D S0 r lo a c p S σ E _ _ _ _ _ _ h => (pp_none h).elim
    · exact fun d D S0 r lo a c p S σ E _ _ _ _ _ _ h => (pp_none h).elim
    · exact fun d D S0 r lo a c p S σ E _ _ _ _ _ _ h => (pp_none h).elim
    · exact fun d D S0 r lo a c p S σ E _ _ _ _ _ _ h => (pp_none h).elim
    · exact fun k d D S0 r lo l c p S σ E _ _ _ _ _ _ h => (pp_none h).elim
  | succ f ih =>
    obtain ⟨i0, i3, i5, i8, i10, i12, i15⟩ := ih
    refine ⟨⟨?_, ?_, ?_, pp_ok pc_cl_T (f + 1)⟩, ?_, ?_, ?_, ?_, ?_, ?_⟩
    · intro m d c S σ r D hm hs hT hp hd h hD
      simp only [List.mem_cons, List.not_mem_nil, or_false] at hm
      rcases hm with rfl | rfl | rfl | rfl | rfl | rfl | rfl | rfl | rfl
      · exact X6_expr_W i0 hw hs hT hp hd h hD
      · exact X6_impl_W i0 hw hs hT hp hd h hD
      · exact X6_either_W i0 (fun S0 lo a c p S σ E q1 q2 q3 q4 q5 => i3 d D S0 r lo a c p S σ E hd hD q1 q2 q3 q4 q5) hs hT hp hd h hD
      · exact X6_both_W i0 (fun S0 lo a c p S σ E q1 q2 q3 q4 q5 => i5 d D S0 r lo a c p S σ E hd hD q1 q2 q3 q4 q5) hs hT hp hd h hD
      · exact X6_cmp_W i0 hw hs hT hp hd h hD
      · exact X6_sum_W i0 (fun S0 lo a c p S σ E q1 q2 q3 q4 q5 => i8 d D S0 r lo a c p S σ E hd hD q1 q2 q3 q4 q5) hs hT hp hd h hD
      · exact X6_product_W i0 (fun S0 lo a c p S σ E q1 q2 q3 q4 q5 => i10 d D S0 r lo a c p S σ E hd hD q1 q2 q3 q4 q5) hs hT hp hd h hD
      · exact X6_unary_W i0 hw (fun S0 lo a c p S σ E q1 q2 q3 q4 q5 => i12 d D S0 r lo a c p S σ E hd hD q1 q2 q3 q4 q5) hs hT hp hd h hD
      · exact X6_atom_W i0 hw hs hT hp hd h hD
    · intro k d c S σ r D hk hs hT hp hd h hD
      exact X6_call_W i0 (fun S0 lo l c p S σ E q1 q2 q3 q4 q5 => i15 k d D S0 r lo l c p S σ E hd hD q1 q2 q3 q4 q5) hk hs hT hp hd h hD
    · intro m a l c S r hm h
      rcases hm with rfl | rfl | rfl
      · have h' : pp_expr T n (pp T n f) 41 c S = some r := h
        unfold pp_expr at h'
        rw [if_pos (by omega)] at h'
        exact (Option.some.inj h').symm
      · have h' : pp_impl T n (pp T n f) 41 c S = some r := h
        unfold pp_impl at h'
        rw [if_pos (by omega)] at h'
        exact (Option.some.inj h').symm
      · have h' : pp_una T n (pp T n f) 41 c S = some r := h
        unfold pp_una at h'
        rw [if_pos (by omega)] at h'
        exact (Option.some.inj h').symm
    · intro d D S0 r lo a c p S σ E hd hD hs hT hpx hpre h
      exact X6_either_L i0 hw hd hD (fun a c p S σ E q1 q2 q3 q4 q5 => i3 d D S0 r lo a c p S σ E hd hD q1 q2 q3 q4 q5) hs hT hpx hpre h E
    · intro d D S0 r lo a c p S σ E hd hD hs hT hpx hpre h
      exact X6_both_L i0 hw hd hD (fun a c p S σ E q1 q2 q3 q4 q5 => i5 d D S0 r lo a c p S σ E hd hD q1 q2 q3 q4 q5) hs hT hpx hpre h E
    · intro d D S0 r lo a c p S σ E hd hD hs hT hpx hpre h
      exact X6_sum_L i0 hw hd hD (fun a c p S σ E q1 q2 q3 q4 q5 => i8 d D S0 r lo a c p S σ E hd hD q1 q2 q3 q4 q5) hs hT hpx hpre h E
    · intro d D S0 r lo a c p S σ E hd hD hs hT hpx hpre h
      exact X6_product_L i0 hw hd hD (fun a c p S σ E q1 q2 q3 q4 q5 => i10 d D S0 r lo a c p S σ E hd hD q1 q2 q3 q4 q5) hs hT hpx hpre h E
    · intro d D S0 r lo a c p S σ E hd hD hs hT hpx hpre h
      exact X6_when_L (d := d) hw (by omega) (fun a c p S σ E q1 q2 q3 q4 q5 => i12 d D S0 r lo a c p S σ E hd hD q1 q2 q3 q4 q5) hs hT hpx hpre h E
    · intro k d D S0 r lo l c p S σ E hd hD hs hT hpx hpre h
      exact X6_args_L i0 (fun _ _ _ _ => trivial) hd hD (fun l c p S σ E q1 q2 q3 q4 q5 => i15 k d D S0 r lo l c p S σ E hd hD q1 q2 q3 q4 q5) hs hT hpx hpre h E
/-! enough fuel -/
/-- the turn of the loop over the arguments: what the next one asks -/
theorem pp_args_pre {n k lo p c c2 x c1 : Nat} {l : List Nat} {S S1 : MS} (h : pe_R n S p p c2 x c1 S1) (hpre : pp_pre n 15 k l lo p c S) (hc : p ≤ c2) : pp_pre n 15 k (l ++ [x]) lo (x + 1) c1 (ml_sa S1 35 (l.getLastD 0) (nI x)) := by
  obtain ⟨hp, hpc, hcn, hV, h5⟩ := hpre
  rw [if_neg (by omega), if_pos rfl] at h5
  obtain ⟨hk, hl0, hpk, hch, hww⟩ := h5
  have hlast := pw_k_last l lo hl0 hpk
  have hmem : ∀ k ∈ l, lo ≤ k ∧ k < p := (pw_k_mem l lo hpk).2
  have e1 : pm_first (l ++ [x]) = pm_first l := by
    obtain ⟨k0, l0, e⟩ := List.exists_cons_of_ne_nil hl0
    rw [e]
    rfl
  have sb : pe_same S1 (ml_sa S1 35 (l.getLastD 0) (nI x)) := ⟨fun k _ => rfl, fun k _ _ h3 => by
    funext j
    rw [ml_sa_a, if_neg (by omega)]⟩
  obtain ⟨s1', x1', y1, z1, r1', u1, v1', w1, f1, l1, w1'⟩ := h
  have hB : ∀ j, (ml_sa S1 35 (l.getLastD 0) (nI x)).2 35 j = if j = l.getLastD 0 then nI x else S1.2 35 j := fun j => by rw [ml_sa_a, if_pos rfl]
  have hq : ∀ q j, q ≠ 35 → (ml_sa S1 35 (l.getLastD 0) (nI x)).2 q j = S1.2 q j := fun q j hq => by rw [ml_sa_a, if_neg hq]
  have hlast' : lo ≤ l.getLastD 0 := by
    have hm : l.getLastD 0 ∈ l := by
      rw [List.getLastD_eq_getLast?, List.getLast?_eq_some_getLast hl0]
      exact List.getLast_mem hl0
    exact (hmem _ hm).1
  refine ⟨x1', by omega, by omega, (hV.same s1').same sb, ?_⟩
  rw [if_neg (by omega), if_pos rfl]
  have hK : (ml_sa S1 35 (l.getLastD 0) (nI x)).2 34 = S1.2 34 := funext fun j => hq 34 j (by omega)
  have hlw : ∀ k, k < p → lw (S1.2 34) k = lw (S.2 34) k := fun k hk' => lw_cg (p - 1) k (by omega) (fun j hj => f1 34 j (by omega) (by omega) (by omega))
  refine ⟨by rw [sb.N, s1'.N]; exact hk, by simp, ?_, ?_, ?_⟩
  · rw [hK]
    exact pw_k_app l lo (pw_k_cg l lo (fun k hk' => (hlw k hk').symm) hpk) l1 z1
  · have e0 : (ml_sa S1 35 (l.getLastD 0) (nI x)).2 35 = fun j => if j = l.getLastD 0 then nI x else S1.2 35 j := funext hB
    rw [e0, e1]
    exact md_ch_app l lo _ hl0 hpk z1 (by rw [r1']; decide) (md_ch_cg l _ (fun k hk' => (f1 35 k (by omega) (by omega) (hmem k hk').2).symm) hch)
  · have A1 : pw (ml_sa S1 35 (l.getLastD 0) (nI x)) lo p := hww.cg (s1'.tr sb) (fun q j a1 a2 a3 => by rw [hq q j (by omega), f1 q j a1 (by omega) a3]) (fun j a1 a2 => by rw [hB, if_neg (by omega), f1 35 j (by omega) (by omega) (by omega)])
    have A2 : pw (ml_sa S1 35 (l.getLastD 0) (nI x)) p (x + 1) := w1'.cg sb (fun q j a1 a2 a3 => hq q j (by omega)) (fun j a1 a2 => by rw [hB, if_neg (by omega)])
    exact A1.cat A2 (by omega)
theorem pr_b_ne {x : Option PE} {g : Nat → Nat → MS → Option PE} (h1 : x ≠ none) (h2 : ∀ e c S, x = some (.inr (e, c, S)) → g e c S ≠ none) : pr_b x g ≠ none := by
  match x, h1, h2 with
  | none, h1, _ => exact absurd rfl h1
  | some (.inl e), _, _ => intro u; cases u
  | some (.inr (e, c, S)), _, h2 => exact h2 e c S rfl
theorem pr_make_ne {S : MS} {kind what : Int32} {ks : List Nat} {c : Nat} : pr_make S kind what ks c ≠ none := by
  unfold pr_make
  split <;> (intro u; cases u)
theorem pr_two_ne {S : MS} {kind : Int32} {a b c : Nat} : pr_two S kind a b c ≠ none := pr_make_ne
theorem pr_call_ne {S : MS} {k : Nat} {ks : List Nat} {c : Nat} : pr_call S k ks c ≠ none := by
  unfold pr_call
  exact pr_b_ne pr_make_ne (fun e c S _ u => by cases u)
def pp_FU (n f : Nat) (rec : PF) : Prop := ∀ m d a l c S lo p, m ≤ 15 → pp_pre n m a l lo p c S → 20 * (n - c) + 20 - m ≤ f → rec m d a l c S ≠ none
section
variable {T : Nat → Int32} {n f : Nat} {rec : PF}
theorem pp_FU.main {m d a c p : Nat} {l : List Nat} {S : MS} (ih : pp_FU n f rec) (hm : ¬ (m = 3 ∨ m = 5 ∨ m = 8 ∨ m = 10 ∨ m = 12) ∧ m ≠ 15 ∧ m < 15) (hp : S.1 40 = nI p) (hpc : p ≤ c) (hcn : c ≤ n) (hV : pe_V n S) (ha : m = 14 → a < pr_N S) (hf : 20 * (n - c) + 20 - m ≤ f) : rec m d a l c S ≠ none := by
  refine ih m d a l c S p p (by omega) ⟨hp, hpc, hcn, hV, ?_⟩ hf
  rw [if_neg hm.1, if_neg hm.2.1]
  exact ⟨rfl, ha⟩
theorem pp_wh_ne {d a c lo p s c1 : Nat} {S : MS} {g : Nat → Option PE} (ok : pp_IH n (fun _ => True) rec) (ih : pp_FU n f rec) (hpre : pp_pre n 12 a [] lo p c S) (hs : s < 2) (hc1 : c + 1 ≤ c1) (hf : 20 * (n - c) ≤ f + 19) : pr_wh T n s c1 S (fun w => pr_b (pr_make S 26 w [a] (lx_next T n c1)) fun x c2 S2 => rec 12 d x [] c2 S2) ≠ none := by
  have r0 := hpre.R (by omega)
  have hV := hpre.2.2.2.1
  have hpc := hpre.2.1
  have e5 : a + 1 = p := by have h5 := hpre.2.2.2.2; rw [if_pos (by omega)] at h5; exact h5.1
  intro h9
  unfold pr_wh at h9
  split at h9
  · cases h9
  rename_i g1
  split at h9
  · cases h9
  rename_i g2
  split at h9
  · cases h9
  obtain ⟨t3, t4⟩ := lx_tkn (Decidable.not_not.1 g1)
  refine absurd h9 (pr_b_ne pr_make_ne (fun x c2 S2 e1 => ?_))
  have g3 : pr_fv n S c1 < pr_v S := Decidable.byContradiction fun u => g2 (Or.inl u)
  have g4 : S.2 24 (pr_fv n S c1) ≠ 0 := fun u => g2 (Or.inr u)
  have hle := pr_fv_le (c := c1) hV
  have hw : pw_s S 26 (nI (2 * (pr_fv n S c1 - pr_a S) + s)) 1 := Or.inr (Or.inr (Or.inr (Or.inr (Or.inr (Or.inr (Or.inr ⟨rfl, rfl, pr_fv n S c1 - pr_a S, s, hs, by omega, by rw [show pr_a S + (pr_fv n S c1 - pr_a S) = pr_fv n S c1 by omega]; exact g4, rfl⟩))))))
  obtain ⟨r1, -⟩ := pp_one (Inv := fun _ => True) pc_cl_T hV.1 hpc r0 (c2 := lx_next T n c1) (by omega) t4 (by omega) hV (by decide) hw e1 id
  dsimp only at r1
  have hc2 := r1.2.2.2.2.2.1
  have hee := r1.2.2.2.2.2.2.2.1
  have hpp := (pr_make_ok e1 r0.2.1 (by have := hV.1; omega)).2.1
  dsimp only at hpp
  exact ih 12 d x [] c2 S2 lo (x + 1) (by omega) (r1.pre hpc hV (by omega)) (by omega)
end
theorem pp_fuel {T : Nat → Int32} {n : Nat} : ∀ f, pp_FU n f (pp T n f) := by
  intro f
  induction f with
  | zero => intro m d a l c S lo p hm hp hf; omega
  | succ f ih =>
    have ok := pp_ok (T := T) (n := n) pc_cl_T f
    have sub : ∀ {m d a c p e c' : Nat} {l : List Nat} {S S' : MS}, pp T n f m d a l c S = some (.inr (e, c', S')) → ¬ (m = 3 ∨ m = 5 ∨ m = 8 ∨ m = 10 ∨ m = 12) ∧ m ≠ 15 ∧ m ≠ 14 → S.1 40 = nI p → p ≤ c → c ≤ n → pe_V n S → pe_R n S p p c e c' S' ∧ S'.1 40 = nI (e + 1) ∧ e + 1 ≤ c' ∧ c ≤ c' ∧ c' ≤ n ∧ pe_V n S' := by
      intro m d a c p e c' l S S' h hm hp hpc hcn hV
      have r := (ok.main h ⟨hm.1, hm.2.1⟩ hp hpc hcn hV (fun e => absurd e hm.2.2)).1
      dsimp only at r
      have h1 := r.2.2.2.2.2.2.2.1
      have h2 := r.2.2.2.2.2.1
      have h3 := r.2.2.2.2.2.2.1
      exact ⟨r, r.2.1, by omega, h2, h3, hV.same r.1⟩
    intro m d a l c S lo p hm hpre hf
    obtain ⟨hp, hpc, hcn, hV, h5⟩ := id hpre
    have hn := hV.1
    have fst : ∀ m ml, ¬ (m = 3 ∨ m = 5 ∨ m = 8 ∨ m = 10 ∨ m = 12) ∧ m ≠ 15 ∧ m < 14 → (ml = 3 ∨ ml = 5 ∨ ml = 8 ∨ ml = 10 ∨ ml = 12) → 20 * (n - c) + 20 - m ≤ f → 20 * (n - c) + 20 - ml ≤ f → pp_fst (pp T n f) m ml d c S ≠ none := by
      intro m ml hm hml h1 h2
      refine pr_b_ne (ih.main (by omega) hp hpc hcn hV (by omega) h1) (fun x c1 S1 e1 => ?_)
      obtain ⟨r1, p1, q1, q2, q3, V1⟩ := sub e1 (by omega) hp hpc hcn hV
      exact ih ml d x [] c1 S1 p (x + 1) (by omega) (r1.pre hpc hV hml) (by omega)
    have lp : ∀ m ml K, ¬ (m = 3 ∨ m = 5 ∨ m = 8 ∨ m = 10 ∨ m = 12) ∧ m ≠ 15 ∧ m < 14 → (ml = 3 ∨ ml = 5 ∨ ml = 8 ∨ ml = 10 ∨ ml = 12) → pp_pre n ml a l lo p c S → (K c ≠ 0 → lx_kind T n c ≠ 0 ∧ 5 ≤ K c ∧ K c ≤ 21) → 20 * (n - c) ≤ f → pp_lp T n (pp T n f) m ml K d a c S ≠ none := by
      intro m ml K hm hml hpre hK h1
      unfold pp_lp
      split
      · intro u; cases u
      · rename_i hk
        obtain ⟨k1, k2⟩ := hK hk
        obtain ⟨t1, t2⟩ := lx_tk k1
        have r0 := hpre.R hml
        have e5 : a + 1 = p := by have h5 := hpre.2.2.2.2; rw [if_pos hml] at h5; exact h5.1
        refine pr_b_ne (ih.main (by omega) hp (by omega) t2 hV (by omega) (by omega)) (fun b c1 S1 e1 => ?_)
        obtain ⟨r1, p1, q1, q2, q3, V1⟩ := sub e1 (by omega) r0.2.1 (by omega) t2 hV
        refine pr_b_ne pr_two_ne (fun x c2 S2 e2 => ?_)
        obtain ⟨r2, -⟩ := pp_two (Inv := fun _ => True) pc_cl_T hn hpc r0 t1 r1 hV k2 e2 id id
        dsimp only at r2
        have := r2.2.2.2.2.2.1
        have e3 : c2 = c1 := (pr_make_ok e2 (show (ml_sa S1 35 a (nI b)).1 40 = nI (b + 1) from p1) (by omega)).2.1
        exact ih ml d x [] c2 S2 lo (x + 1) (by omega) (r2.pre hpc hV hml) (by omega)
    match m, hm, hpre, hf with
    | 0, _, hpre, hf =>
      show pp_expr T n (pp T n f) d c S ≠ none
      unfold pp_expr
      split
      · intro u; cases u
      split
      · rename_i g
        obtain ⟨t1, t2⟩ := lx_tkw g
        refine pr_b_ne (ih.main (by omega) hp (by omega) t2 hV (by omega) (by omega)) (fun x c1 S1 e1 => ?_)
        obtain ⟨r1, p1, q1, q2, q3, V1⟩ := sub e1 (by omega) hp (by omega) t2 hV
        split
        · rename_i g2
          obtain ⟨t3, t4⟩ := lx_tkw g2
          refine pr_b_ne (ih.main (by omega) p1 (by omega) t4 V1 (by omega) (by omega)) (fun y c2 S2 e2 => ?_)
          obtain ⟨r2, p2, q4, q5, q6, V2⟩ := sub e2 (by omega) p1 (by omega) t4 V1
          split
          · rename_i g3
            obtain ⟨t5, t6⟩ := lx_tkw g3
            have sb : pe_same S2 (ml_sa S2 35 x (nI y)) := ⟨fun k _ => rfl, fun k _ _ h3 => by
              funext j
              rw [ml_sa_a, if_neg (by omega)]⟩
            exact pr_b_ne (ih.main (S := ml_sa S2 35 x (nI y)) (by omega) p2 (by omega) t6 (V2.same sb) (by omega) (by omega)) (fun w c3 S3 e3 => pr_make_ne)
          · intro u; cases u
        · intro u; cases u
      · refine pr_b_ne (ih.main (by omega) hp hpc hcn hV (by omega) (by omega)) (fun x c1 S1 e1 => ?_)
        obtain ⟨r1, p1, q1, q2, q3, V1⟩ := sub e1 (by omega) hp hpc hcn hV
        split
        · rename_i g
          obtain ⟨t1, t2⟩ := lx_tk (T := T) (n := n) (c := c1) (by rw [g]; decide)
          exact pr_b_ne (ih.main (by omega) p1 (by omega) t2 V1 (by omega) (by omega)) (fun y c2 S2 e2 => pr_two_ne)
        split
        · rename_i g
          obtain ⟨t1, t2⟩ := lx_tkw g
          exact pr_b_ne (ih.main (by omega) p1 (by omega) t2 V1 (by omega) (by omega)) (fun y c2 S2 e2 => pr_two_ne)
        · intro u; cases u
    | 1, _, hpre, hf =>
      show pp_impl T n (pp T n f) d c S ≠ none
      unfold pp_impl
      split
      · intro u; cases u
      refine pr_b_ne (ih.main (by omega) hp hpc hcn hV (by omega) (by omega)) (fun x c1 S1 e1 => ?_)
      obtain ⟨r1, p1, q1, q2, q3, V1⟩ := sub e1 (by omega) hp hpc hcn hV
      split
      · rename_i g
        obtain ⟨t1, t2⟩ := lx_tk (T := T) (n := n) (c := c1) (by rw [g]; decide)
        exact pr_b_ne (ih.main (by omega) p1 (by omega) t2 V1 (by omega) (by omega)) (fun y c2 S2 e2 => pr_two_ne)
      · intro u; cases u
    | 2, _, hpre, hf => exact fst 4 3 (by omega) (by omega) (by omega) (by omega)
    | 3, _, hpre, hf => exact lp 4 3 _ (by omega) (by omega) hpre kk_or_ok (by omega)
    | 4, _, hpre, hf => exact fst 6 5 (by omega) (by omega) (by omega) (by omega)
    | 5, _, hpre, hf => exact lp 6 5 _ (by omega) (by omega) hpre kk_and_ok (by omega)
    | 6, _, hpre, hf =>
      show pp_cmp T n (pp T n f) d c S ≠ none
      unfold pp_cmp
      refine pr_b_ne (ih.main (by omega) hp hpc hcn hV (by omega) (by omega)) (fun x c1 S1 e1 => ?_)
      obtain ⟨r1, p1, q1, q2, q3, V1⟩ := sub e1 (by omega) hp hpc hcn hV
      split
      · intro u; cases u
      · rename_i g
        obtain ⟨t1, t2⟩ := lx_tk (T := T) (n := n) (c := c1) (pr_cmp_ok g).1
        exact pr_b_ne (ih.main (by omega) p1 (by omega) t2 V1 (by omega) (by omega)) (fun y c2 S2 e2 => pr_two_ne)
    | 7, _, hpre, hf => exact fst 9 8 (by omega) (by omega) (by omega) (by omega)
    | 8, _, hpre, hf => exact lp 9 8 _ (by omega) (by omega) hpre kk_sum_ok (by omega)
    | 9, _, hpre, hf => exact fst 11 10 (by omega) (by omega) (by omega) (by omega)
    | 10, _, hpre, hf => exact lp 11 10 _ (by omega) (by omega) hpre kk_prd_ok (by omega)
    | 11, _, hpre, hf =>
      show pp_una T n (pp T n f) d c S ≠ none
      unfold pp_una
      split
      · intro u; cases u
      split
      · refine pr_b_ne (ih.main (by omega) hp hpc hcn hV (by omega) (by omega)) (fun x c1 S1 e1 => ?_)
        obtain ⟨r1, p1, q1, q2, q3, V1⟩ := sub e1 (by omega) hp hpc hcn hV
        exact ih 12 d x [] c1 S1 p (x + 1) (by omega) (r1.pre hpc hV (by omega)) (by omega)
      · rename_i g
        obtain ⟨t1, t2⟩ := lx_tk (T := T) (n := n) (c := c) (kk_una_ok g).1
        exact pr_b_ne (ih.main (by omega) hp (by omega) t2 hV (by omega) (by omega)) (fun x c1 S1 e1 => pr_make_ne)
    | 12, _, hpre, hf =>
      have hpre' : pp_pre n 12 a [] lo p c S := ⟨hp, hpc, hcn, hV, by rw [if_pos (by omega)]; rw [if_pos (by omega)] at h5; exact h5⟩
      show pp_wh T n (pp T n f) d a c S ≠ none
      unfold pp_wh
      split
      · intro u; cases u
      rename_i g
      obtain ⟨t1, t2⟩ := lx_tkw (Decidable.not_not.1 g)
      split
      · rename_i g2
        obtain ⟨t3, t4⟩ := lx_tkw g2
        exact pp_wh_ne (g := fun _ => none) ok ih hpre' (by omega) (by omega) (by omega)
      · exact pp_wh_ne (g := fun _ => none) ok ih hpre' (by omega) (by omega) (by omega)
    | 13, _, hpre, hf =>
      show pp_atom T n (pp T n f) d c S ≠ none
      unfold pp_atom
      split
      · exact pr_make_ne
      split
      · exact pr_make_ne
      split
      · exact pr_make_ne
      split
      · rename_i g
        obtain ⟨t1, t2⟩ := lx_tk (T := T) (n := n) (c := c) (by rw [g]; decide)
        refine pr_b_ne (ih.main (by omega) hp (by omega) t2 hV (by omega) (by omega)) (fun x c1 S1 e1 => ?_)
        split <;> (intro u; cases u)
      split
      · intro u; cases u
      rename_i gn
      obtain ⟨t1, t2⟩ := lx_tkn (Decidable.not_not.1 gn)
      split
      · split
        · rename_i g2 g3
          exact ih.main (by omega) hp (by omega) t2 hV (fun _ => g3) (by omega)
        · intro u; cases u
      split
      · exact pr_make_ne
      · intro u; cases u
    | 14, _, hpre, hf =>
      have hk : a < pr_N S := by rw [if_neg (by omega), if_neg (by omega)] at h5; exact h5.2 rfl
      show pp_call T n (pp T n f) d a c S ≠ none
      unfold pp_call
      split
      · rename_i g
        obtain ⟨t1, t2⟩ := lx_tk (T := T) (n := n) (c := c) (by rw [g]; decide)
        refine pr_b_ne (ih.main (by omega) hp (by omega) t2 hV (by omega) (by omega)) (fun x c1 S1 e1 => ?_)
        obtain ⟨r1, p1, q1, q2, q3, V1⟩ := sub e1 (by omega) hp (by omega) t2 hV
        refine ih 15 d a [x] c1 S1 p (x + 1) (by omega) ⟨p1, q1, q3, V1, ?_⟩ (by omega)
        rw [if_neg (by omega), if_pos rfl]
        obtain ⟨s1', x1', y1, z1, r1', u1, v1, w1, f1, l1, w1'⟩ := r1
        refine ⟨by rw [s1'.N]; exact hk, by simp, ⟨l1, z1, by omega, rfl⟩, ⟨rfl, ?_⟩, w1'⟩
        rw [r1']
        show (-1 : Int32) < 0
        decide
      · intro u; cases u
    | 15, _, hpre, hf =>
      show pp_args T n (pp T n f) d a l c S ≠ none
      unfold pp_args
      split
      · rename_i g
        obtain ⟨t1, t2⟩ := lx_tk (T := T) (n := n) (c := c) (by rw [g]; decide)
        refine pr_b_ne (ih.main (by omega) hp (by omega) t2 hV (by omega) (by omega)) (fun x c1 S1 e1 => ?_)
        obtain ⟨r1, p1, q1, q2, q3, V1⟩ := sub e1 (by omega) hp (by omega) t2 hV
        rw [if_neg (by omega), if_pos rfl] at h5
        exact ih 15 d a (l ++ [x]) c1 (ml_sa S1 35 (l.getLastD 0) (nI x)) lo (x + 1) (by omega) (pp_args_pre r1 hpre (by omega)) (by omega)
      · split
        · exact pr_call_ne
        · intro u; cases u
    | (m + 16), hm, _, _ => omega
