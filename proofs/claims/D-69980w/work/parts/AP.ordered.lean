/-! ordered of the reference: the walk -/
set_option maxRecDepth 100000
/-- n variables are ordered -/
def or_I (S : MS) (N : Nat) (E : Nat → List Nat) (σ : MS) (n : Nat) (o : Nat → Nat) : Prop := (σ.1 = S.1 ∧ ∀ q, ¬ (68 ≤ q ∧ q ≤ 71) → σ.2 q = S.2 q) ∧ ord N E o n ∧ (∀ i, i < n → σ.2 70 i = nI (o i) ∧ σ.2 68 (o i) ≠ 0) ∧ (∀ v, v < N → σ.2 68 v ≠ 0 → ∃ i, i < n ∧ o i = v) ∧ n + unr (σ.2 68) N = N
/-- nobody below v is ready -/
def or_st (E : Nat → List Nat) (σ : MS) (v : Nat) : Prop := ∀ u, u < v → σ.2 68 u = 0 → ∃ w ∈ E u, σ.2 68 w = 0
section
variable {z : MZ} {N : Nat} {Ce : Nat → Nat} {E : Nat → List Nat} {S : MS} {jm : MJ}
theorem ordered_rdy (hg : gr S N Ce E) {σ : MS} {v : Nat} {x1 x2 : Int32} (hv : v < N) (h2 : ∀ q, ¬ (68 ≤ q ∧ q ≤ 71) → σ.2 q = S.2 q) (K : ∀ x4 E', (x4 ≠ 0 ↔ ∀ w ∈ E v, σ.2 68 w ≠ 0) → ml_V z mX6_ordered jm 104 [(0, vR (some z.2.1)), (1, vI x1), (2, vI x2), (3, vI (nI v)), (4, vI x4)] [] σ E' jm.2.1) :
    ∀ m j x4 E', j + m = (E v).length → (x4 ≠ 0 ↔ ∀ i w, i < j → (E v)[i]? = some w → σ.2 68 w ≠ 0) → ml_V z mX6_ordered jm 66 [(0, vR (some z.2.1)), (1, vI x1), (2, vI x2), (3, vI (nI v)), (4, vI x4), (5, vI (nI (Ce v + j)))] [] σ E' jm.2.1 := by
  obtain ⟨hN, h51, h65, hEd⟩ := hg
  have hC := (hEd v hv).1
  have hCb := (h65 (v + 1) (by omega)).2
  have e65 : σ.2 65 (nI v + 1).toNatClampNeg = nI (Ce (v + 1)) := by rw [nI_1, nI_clamp (by omega), h2 65 (by omega), (h65 (v + 1) (by omega)).1]
  intro m
  induction m with
  | zero =>
    intro j x4 E' hj hx
    refine mbordered_66 (by rw [nI_1]; exact vp_in_nI (by omega) (by decide)) (fun _ => K _ _ ⟨fun h w hw => ?_, fun h => hx.2 (fun i w _ hw => h w (List.mem_of_getElem? hw))⟩) (fun q => absurd (by rw [e65]; exact nI_le (by omega) (by omega)) q)
    obtain ⟨i, hi⟩ := List.getElem?_of_mem hw
    have hil : i < (E v).length := by
      rcases Nat.lt_or_ge i (E v).length with y | y
      · exact y
      · rw [List.getElem?_eq_none y] at hi; cases hi
    exact hx.1 h i w (by omega) hi
  | succ m ih =>
    intro j x4 E' hj hx
    have hjl : j < (E v).length := by omega
    have hget : (E v)[j]? = some (E v)[j] := List.getElem?_eq_getElem hjl
    obtain ⟨e66, hw⟩ := (hEd v hv).2 j _ hget
    generalize (E v)[j] = w at hget e66 hw
    have cw : (nI w).toNatClampNeg = w := nI_clamp (by omega)
    have cj : (nI (Ce v + j)).toNatClampNeg = Ce v + j := nI_clamp (by omega)
    have ew : σ.2 66 (nI (Ce v + j)).toNatClampNeg = nI w := by rw [cj, h2 66 (by omega)]; exact e66
    refine mbordered_66 (by rw [nI_1]; exact vp_in_nI (by omega) (by decide)) (fun q => ?_) (fun _ => ?_)
    · rw [e65] at q
      exact absurd ((nI_leI (by omega) (by omega)).1 q) (by omega)
    refine mbordered_79 (fun q => ?_) (fun q => ?_)
    · exact K _ _ ⟨fun h => absurd q h, fun h => absurd q (hx.2 (fun i w _ hw => h w (List.mem_of_getElem? hw)))⟩
    · refine mbordered_84 (vp_in_nI (by omega) (by decide)) (by rw [ew]; exact vp_in_nI (by omega) (by decide)) ?_
      rw [ew, cw, nI_1, show Ce v + j + 1 = Ce v + (j + 1) by omega]
      refine ih (j + 1) _ _ (by omega) ⟨fun h i x hi hx' => ?_, fun h => h j w (by omega) hget⟩
      rcases Nat.lt_or_ge i j with y | y
      · exact hx.1 q i x y hx'
      · have : i = j := by omega
        subst this
        rw [hget] at hx'
        have hx' := Option.some.inj hx'
        subst hx'
        exact h
/-- one pass -/
theorem ordered_pass (hg : gr S N Ce E) {u0 : Nat} (K : ∀ σ n o more E', or_I S N E σ n o → (more = 0 ∧ or_st E σ N ∨ more = 1 ∧ unr (σ.2 68) N < u0) → ml_V z mX6_ordered jm 137 [(0, vR (some z.2.1)), (1, vI (nI n)), (2, vI more)] [] σ E' jm.2.1) :
    ∀ m v σ n o more E', v + m = N → or_I S N E σ n o → (more = 0 ∧ unr (σ.2 68) N = u0 ∧ or_st E σ v ∨ more = 1 ∧ unr (σ.2 68) N < u0) → ml_V z mX6_ordered jm 35 [(0, vR (some z.2.1)), (1, vI (nI n)), (2, vI more), (3, vI (nI v))] [] σ E' jm.2.1 := by
  obtain ⟨hN, h51, h65, hEd⟩ := id hg
  have hE : ∀ v, v < N → ∀ w ∈ E v, w < N := fun v hv w hw => by
    obtain ⟨j, hj⟩ := List.getElem?_of_mem hw
    exact ((hEd v hv).2 j w hj).2
  intro m
  induction m with
  | zero =>
    intro v σ n o more E' hv hI hm
    have ev : v = N := by omega
    subst ev
    refine mbordered_35 (fun _ => K _ _ _ _ _ hI (hm.imp (fun h => ⟨h.1, h.2.2⟩) id)) (fun q => absurd (by rw [hI.1.1, h51]; exact nI_le (Nat.le_refl _) (by omega)) q)
  | succ m ih =>
    intro v σ n o more E' hv hI hm
    obtain ⟨⟨i1, i2⟩, i3, i4, i5, i6⟩ := id hI
    have cv : (nI v).toNatClampNeg = v := nI_clamp (by omega)
    have vv : vp_in (nI v) 6100 := vp_in_nI (by omega) (by decide)
    have next : ∀ σ n o more E', or_I S N E σ n o → (more = 0 ∧ unr (σ.2 68) N = u0 ∧ or_st E σ (v + 1) ∨ more = 1 ∧ unr (σ.2 68) N < u0) → ml_V z mX6_ordered jm 131 [(0, vR (some z.2.1)), (1, vI (nI n)), (2, vI more), (3, vI (nI v))] [] σ E' jm.2.1 := by
      intro σ n o more E' hI hm
      refine mbordered_131 ?_
      rw [nI_1]
      exact ih (v + 1) σ n o more _ (by omega) hI hm
    refine mbordered_35 (fun q => ?_) (fun _ => ?_)
    · rw [i1, h51] at q
      exact absurd ((nI_leI (by omega) (by omega)).1 q) (by omega)
    refine mbordered_43 vv (fun q => ?_) (fun q => ?_)
    · rw [cv] at q
      refine mbordered_55 (vp_in_nI (by omega) (by decide)) ?_
      rw [cv, i2 65 (by omega), (h65 v (by omega)).1]
      refine ordered_rdy hg (by omega) i2 (fun x4 E' hx => ?_) (E v).length 0 1 _ (by omega) ⟨fun _ i w hi => by omega, fun _ => by decide⟩
      refine mbordered_104 (fun q4 => ?_) (fun q4 => ?_)
      · have hr := hx.1 q4
        have hn : n < 6100 := by omega
        refine mbordered_112 vv (vp_in_nI (by omega) (by decide)) ?_
        rw [cv, nI_clamp (n := n) (by omega), nI_1]
        have e68 : (ml_sa (ml_sa σ 68 v 1) 70 n (nI v)).2 68 = fun i => if i = v then 1 else σ.2 68 i := funext fun i => by
          rw [ml_sa_a, if_neg (by omega), ml_sa_a, if_pos rfl]
        have e70 : ∀ i, (ml_sa (ml_sa σ 68 v 1) 70 n (nI v)).2 70 i = if i = n then nI v else σ.2 70 i := fun i => by
          rw [ml_sa_a, if_pos rfl]
          rfl
        have hset := unr_set (x := 1) q (by decide) N (by omega)
        have hov : ∀ i, i < n → o i ≠ v := fun i hi u => (i4 i hi).2 (by rw [u]; exact q)
        refine next _ (n + 1) (fun i => if i = n then v else o i) 1 _ ⟨⟨i1, fun x hx => by rw [← i2 x hx]; funext i; rw [ml_sa_a, if_neg (by omega), ml_sa_a, if_neg (by omega)]⟩, ord_push i3 (by omega) hov (fun w hw => i5 w (hE v (by omega) w hw) (hr w hw)), fun i hi => ?_, fun u hu h => ?_, by rw [e68]; omega⟩ (Or.inr ⟨rfl, ?_⟩)
        · rw [e70, e68]
          show (if i = n then nI v else σ.2 70 i) = nI (if i = n then v else o i) ∧ (if (if i = n then v else o i) = v then (1 : Int32) else σ.2 68 (if i = n then v else o i)) ≠ 0
          by_cases y : i = n
          · rw [if_pos y, if_pos y, if_pos rfl]
            exact ⟨rfl, by decide⟩
          · have y' : i < n := by omega
            have e9 : (if i = n then v else o i) = o i := if_neg y
            rw [if_neg y, e9, if_neg (hov i y')]
            exact i4 i y'
        · rw [e68] at h
          have h : (if u = v then (1 : Int32) else σ.2 68 u) ≠ 0 := h
          by_cases y : u = v
          · exact ⟨n, by omega, by show (if n = n then v else o n) = u; rw [if_pos rfl]; exact y.symm⟩
          · rw [if_neg y] at h
            obtain ⟨i, r1, r2⟩ := i5 u hu h
            exact ⟨i, by omega, by show (if i = n then v else o i) = u; rw [if_neg (by omega)]; exact r2⟩
        · rw [e68]
          have : unr (σ.2 68) N ≤ u0 := by
            rcases hm with ⟨-, h, -⟩ | ⟨-, h⟩ <;> omega
          omega
      · have hnr : ¬ ∀ w ∈ E v, σ.2 68 w ≠ 0 := fun h => hx.2 h q4
        refine mbordered_109 (next _ _ _ _ _ hI (hm.imp (fun ⟨h1, h2, h3⟩ => ⟨h1, h2, fun u hu h0 => ?_⟩) id))
        rcases Nat.lt_or_ge u v with y | y
        · exact h3 u y h0
        · have : u = v := by omega
          subst this
          refine Decidable.byContradiction fun c => hnr (fun w hw h => c ⟨w, hw, h⟩)
    · rw [cv] at q
      refine mbordered_52 (next _ _ _ _ _ hI (hm.imp (fun ⟨h1, h2, h3⟩ => ⟨h1, h2, fun u hu h0 => ?_⟩) id))
      rcases Nat.lt_or_ge u v with y | y
      · exact h3 u y h0
      · have : u = v := by omega
        subst this
        exact absurd h0 q
/-- what ordered leaves: an order -/
def or_ok (S : MS) (N : Nat) (E : Nat → List Nat) (σ : MS) : Prop := (σ.1 = S.1 ∧ ∀ q, ¬ (68 ≤ q ∧ q ≤ 71) → σ.2 q = S.2 q) ∧ (∃ o, ord N E o N ∧ (∀ i, i < N → σ.2 70 i = nI (o i)) ∧ ∀ v, v < N → ∃ i, i < N ∧ o i = v) ∧ ∀ v, v < N → ¬ rch E v v
def or_er (S : MS) (N : Nat) (E : Nat → List Nat) (plf : Nat → Int32) (kd pl : Int32) (σ : MS) : Prop := kd = 7 ∧ (σ.1 = S.1 ∧ ∀ q, ¬ (68 ≤ q ∧ q ≤ 71) → σ.2 q = S.2 q) ∧ ∃ v, v < N ∧ rch E v v ∧ (∀ u, u < v → ¬ rch E u u) ∧ pl = plf v
theorem ordered_V {plf : Nat → Int32} (hg : gr S N Ce E) (hd : 10 ≤ jm.1) (hb : jm.2.1 = 1) (hPl : ∀ z' : MZ, z'.2.1 = z.2.1 → z'.1 = z.1 → ∀ v σ, v < N → rch E v v → σ.1 = S.1 → (∀ q, ¬ (68 ≤ q ∧ q ≤ 71) → σ.2 q = S.2 q) → ml_C z' mX6_placeOfVariable 5 0 [vR (some z.2.1), vI (nI v)] σ (fun u σ' _ => u = some (vI (plf v)) ∧ σ' = σ) (fun _ _ _ => False))
    (hP : ∀ σ G, or_ok S N E σ → jm.2.2.1 none σ G) (hX : ∀ kd pl σ, or_er S N E plf kd pl σ → jm.2.2.2 kd pl σ) (E9 : GH → Prop) : ml_V z mX6_ordered jm 0 [(0, vR (some z.2.1))] [] S E9 jm.2.1 := by
  obtain ⟨hN, h51, h65, hEd⟩ := id hg
  have hE : ∀ v, v < N → ∀ w ∈ E v, w < N := fun v hv w hw => by
    obtain ⟨j, hj⟩ := List.getElem?_of_mem hw
    exact ((hEd v hv).2 j w hj).2
  -- the search for the cycle
  have look : ∀ n o σ0, or_I S N E σ0 n o → or_st E σ0 N → unr (σ0.2 68) N ≠ 0 → ∀ m v σ E', v + m = N → σ.1 = S.1 → (∀ q, ¬ (68 ≤ q ∧ q ≤ 71) → σ.2 q = S.2 q) → (∀ u, u < N → σ.2 71 u = if σ0.2 68 u = 0 then 1 else 0) → (∀ u, u < v → ¬ rch E u u) → ml_V z mX6_ordered jm 187 [(0, vR (some z.2.1)), (3, vI (nI v))] [] σ E' jm.2.1 := by
    intro n o σ0 hI0 hst hu0 m
    induction m with
    | zero =>
      intro v σ E' hv h1 h2 h3 h4
      have ev : v = N := by omega
      subst ev
      obtain ⟨u0, u1, u2⟩ := unr_ex _ hu0
      obtain ⟨u, ⟨w1, w2⟩, w3⟩ := cyc_ex (N := v) (E := E) (p := fun u => u < v ∧ σ0.2 68 u = 0) (fun u h => h.1) (fun u h => by
        obtain ⟨w, y1, y2⟩ := hst u h.1 h.2
        exact ⟨w, y1, hE u h.1 w y1, y2⟩) ⟨u1, u2⟩
      exact absurd w3 (h4 u w1)
    | succ m ih =>
      intro v σ E' hv h1 h2 h3 h4
      have cv : (nI v).toNatClampNeg = v := nI_clamp (by omega)
      have vv : vp_in (nI v) 6100 := vp_in_nI (by omega) (by decide)
      have next : ∀ σ E', σ.1 = S.1 → (∀ q, ¬ (68 ≤ q ∧ q ≤ 71) → σ.2 q = S.2 q) → (∀ u, u < N → σ.2 71 u = if σ0.2 68 u = 0 then 1 else 0) → ¬ rch E v v → ml_V z mX6_ordered jm 228 [(0, vR (some z.2.1)), (3, vI (nI v))] [] σ E' jm.2.1 := by
        intro σ E' h1 h2 h3 h5
        refine mbordered_228 ?_
        rw [nI_1]
        refine ih (v + 1) σ _ (by omega) h1 h2 h3 (fun u hu => ?_)
        rcases Nat.lt_or_ge u v with y | y
        · exact h4 u y
        · have : u = v := by omega
          rw [this]; exact h5
      refine mbordered_187 (fun q => ?_) (fun _ => ?_)
      · rw [h1, h51] at q
        exact absurd ((nI_leI (by omega) (by omega)).1 q) (by omega)
      refine mbordered_195 vv (fun q => ?_) (fun q => ?_)
      · rw [cv, h3 v (by omega)] at q
        have hne : σ0.2 68 v ≠ 0 := fun u => by
          rw [if_pos u] at q
          exact absurd q (by decide)
        obtain ⟨i, r1, r2⟩ := hI0.2.2.2.1 v (by omega) hne
        exact next _ _ h1 h2 h3 (by rw [← r2]; exact ord_nc hI0.2.1 r1)
      · have hg' : gr σ N Ce E := hg.cg (by rw [h1]) (h2 65 (by omega)) (h2 66 (by omega))
        refine mbordered_204 (X6_caused_C (d := 0) hg' (show v < N by omega) (show v < N by omega)) (by omega) (Nat.zero_le _) (ml_kr fun u σ1 g => ?_) ml_no
        obtain ⟨g1, g2, g3⟩ := g
        have k1 : σ1.1 = S.1 := g2.trans h1
        have k2 : ∀ q, ¬ (68 ≤ q ∧ q ≤ 71) → σ1.2 q = S.2 q := fun q hq => by rw [g3 q (by omega) (by omega)]; exact h2 q hq
        have k3 : ∀ u, u < N → σ1.2 71 u = if σ0.2 68 u = 0 then 1 else 0 := fun u hu => by rw [g3 71 (by omega) (by omega)]; exact h3 u hu
        rcases g1 with ⟨rfl, g1⟩ | ⟨rfl, g1⟩
        · refine mbordered_210 (fun q => absurd q (by decide)) (fun _ => ?_)
          refine mbordered_213 (by omega) (fun q => ?_)
          refine ordered_216 (fun z' hz1 hz2 => hPl z' hz1 hz2 v σ1 (by omega) g1 k1 k2) (by omega) (by omega) ?_
          refine mbordered_224 rfl (X23_init_C (Nat.le_refl 4)) (fun G g => g) (by omega) (Nat.zero_le _) ?_ (by omega)
          refine mbordered_227 rfl (fun G g => g.1) (fun G g => ?_)
          rw [g.2.1, g.2.2]
          exact hX _ _ _ ⟨rfl, ⟨k1, k2⟩, v, by omega, g1, h4, rfl⟩
        · exact mbordered_210 (fun _ => next _ _ k1 k2 k3 g1) (fun q => absurd rfl q)
  have undo : ∀ n o σ0, or_I S N E σ0 n o → or_st E σ0 N → unr (σ0.2 68) N ≠ 0 → ∀ m v σ E', v + m = N → σ.1 = S.1 → (∀ q, ¬ (68 ≤ q ∧ q ≤ 71) → σ.2 q = S.2 q) → σ.2 68 = σ0.2 68 → (∀ u, u < v → σ.2 71 u = if σ0.2 68 u = 0 then 1 else 0) → ml_V z mX6_ordered jm 151 [(0, vR (some z.2.1)), (3, vI (nI v))] [] σ E' jm.2.1 := by
    intro n o σ0 hI0 hst hu0 m
    induction m with
    | zero =>
      intro v σ E' hv h1 h2 h68 h3
      have ev : v = N := by omega
      subst ev
      refine mbordered_151 (fun _ => mbordered_185 ?_) (fun q => absurd (by rw [h1, h51]; exact nI_le (Nat.le_refl _) (by omega)) q)
      exact look n o σ0 hI0 hst hu0 v 0 σ _ (by omega) h1 h2 h3 (fun u hu => by omega)
    | succ m ih =>
      intro v σ E' hv h1 h2 h68 h3
      have cv : (nI v).toNatClampNeg = v := nI_clamp (by omega)
      have vv : vp_in (nI v) 6100 := vp_in_nI (by omega) (by decide)
      have fin : ∀ s E', (s = if σ0.2 68 v = 0 then (1 : Int32) else 0) → (s = 0 ∨ s = 1) → ml_V z mX6_ordered jm 178 [(0, vR (some z.2.1)), (3, vI (nI v))] [vI s, vI (nI v), vR (some (z.2.2.1 71))] σ E' jm.2.1 := by
        intro s E' hs hs2
        refine mbordered_178 vv hs2 ?_
        rw [cv, nI_1]
        refine ih (v + 1) _ _ (by omega) h1 (fun q hq => by rw [← h2 q hq]; funext i; rw [ml_sa_a, if_neg (by omega)]) (by rw [← h68]; funext i; rw [ml_sa_a, if_neg (by omega)]) (fun u hu => ?_)
        rw [ml_sa_a, if_pos rfl]
        rcases Nat.lt_or_ge u v with y | y
        · rw [if_neg (by omega)]; exact h3 u y
        · have : u = v := by omega
          rw [if_pos this, this]; exact hs
      refine mbordered_151 (fun q => ?_) (fun _ => ?_)
      · rw [h1, h51] at q
        exact absurd ((nI_leI (by omega) (by omega)).1 q) (by omega)
      refine mbordered_159 vv (fun q => ?_) (fun q => ?_)
      · rw [cv, h68] at q
        exact mbordered_177 (fin 0 _ (by rw [if_neg q]) (Or.inl rfl))
      · rw [cv, h68] at q
        exact mbordered_173 (fin 1 _ (by rw [if_pos q]) (Or.inr rfl))
  have stuck : ∀ σ n o E', or_I S N E σ n o → or_st E σ N → ml_V z mX6_ordered jm 27 [(0, vR (some z.2.1)), (1, vI (nI n)), (2, vI 0)] [] σ E' jm.2.1 := by
    intro σ n o E' hI hst
    obtain ⟨⟨i1, i2⟩, i3, i4, i5, i6⟩ := id hI
    refine mbordered_27 (fun _ => ?_) (fun q => absurd rfl q)
    refine mbordered_140 (fun q2 => ?_) (fun q2 => ?_)
    · rw [i1, h51] at q2
      have hne : unr (σ.2 68) N ≠ 0 := fun u => q2 (by rw [show n = N by omega])
      refine mbordered_149 ?_
      exact undo n o σ hI hst hne N 0 σ _ (by omega) i1 i2 rfl (fun u hu => by omega)
    · rw [i1, h51] at q2
      have en : n = N := (nI_eq (by omega) (by omega)).1 q2
      subst en
      have h0 : unr (σ.2 68) n = 0 := by omega
      have hall : ∀ v, v < n → ∃ i, i < n ∧ o i = v := fun v hv => i5 v hv (unr_0 h0 hv)
      refine mbordered_148 (fun G _ => hP _ _ ⟨⟨i1, i2⟩, ⟨o, i3, fun i hi => (i4 i hi).1, hall⟩, fun v hv => ?_⟩)
      obtain ⟨i, r1, r2⟩ := hall v hv
      rw [← r2]
      exact ord_nc i3 r1
  have outer : ∀ f σ n o E', unr (σ.2 68) N < f → or_I S N E σ n o → ml_V z mX6_ordered jm 27 [(0, vR (some z.2.1)), (1, vI (nI n)), (2, vI 1)] [] σ E' jm.2.1 := by
    intro f
    induction f with
    | zero => intro σ n o E' h; omega
    | succ f ih =>
      intro σ n o E' hf hI
      refine mbordered_27 (fun q => absurd q (by decide)) (fun _ => mbordered_31 ?_)
      refine ordered_pass hg (u0 := unr (σ.2 68) N) (fun σ1 n1 o1 more E' hI1 hm => ?_) N 0 σ n o 0 _ (by omega) hI (Or.inl ⟨rfl, rfl, fun u hu => by omega⟩)
      refine mbordered_137 ?_
      rcases hm with ⟨rfl, hst⟩ | ⟨rfl, hlt⟩
      · exact stuck σ1 n1 o1 _ hI1 hst
      · exact ih σ1 n1 o1 _ (by omega) hI1
  have clear : ∀ m v σ E', v + m = N → σ.1 = S.1 → (∀ q, ¬ (68 ≤ q ∧ q ≤ 71) → σ.2 q = S.2 q) → (∀ u, u < v → σ.2 68 u = 0) → ml_V z mX6_ordered jm 2 [(0, vR (some z.2.1)), (1, vI (nI v))] [] σ E' jm.2.1 := by
    intro m
    induction m with
    | zero =>
      intro v σ E' hv h1 h2 h3
      have ev : v = N := by omega
      subst ev
      refine mbordered_2 (fun _ => mbordered_23 ?_) (fun q => absurd (by rw [h1, h51]; exact nI_le (Nat.le_refl _) (by omega)) q)
      have hu : unr (σ.2 68) v = v := by
        have : ∀ m, m ≤ v → unr (σ.2 68) m = m := by
          intro m
          induction m with
          | zero => intro _; rfl
          | succ m im =>
            intro hm
            rw [unr, im (by omega), if_pos (h3 m (by omega))]
        exact this v (Nat.le_refl _)
      exact outer (v + 1) σ 0 (fun _ => 0) _ (by omega) ⟨⟨h1, h2⟩, ⟨fun i hi => by omega, fun i j hi => by omega⟩, fun i hi => by omega, fun u hu h => absurd (h3 u hu) h, by omega⟩
    | succ m ih =>
      intro v σ E' hv h1 h2 h3
      have cv : (nI v).toNatClampNeg = v := nI_clamp (by omega)
      refine mbordered_2 (fun q => ?_) (fun _ => ?_)
      · rw [h1, h51] at q
        exact absurd ((nI_leI (by omega) (by omega)).1 q) (by omega)
      · refine mbordered_10 (vp_in_nI (by omega) (by decide)) ?_
        rw [cv, nI_1]
        refine ih (v + 1) _ _ (by omega) h1 (fun q hq => by rw [← h2 q hq]; funext i; rw [ml_sa_a, if_neg (by omega)]) (fun u hu => ?_)
        rw [ml_sa_a, if_pos rfl]
        split
        · rfl
        · exact h3 u (by omega)
  exact mbordered_0 (clear N 0 S _ (by omega) rfl (fun _ _ => rfl) (fun u hu => by omega))
theorem X6_ordered_C {d : Nat} {plf : Nat → Int32} (hg : gr S N Ce E) (hd : 10 ≤ d) (hPl : ∀ z' : MZ, z'.2.1 = z.2.1 → z'.1 = z.1 → ∀ v σ, v < N → rch E v v → σ.1 = S.1 → (∀ q, ¬ (68 ≤ q ∧ q ≤ 71) → σ.2 q = S.2 q) → ml_C z' mX6_placeOfVariable 5 0 [vR (some z.2.1), vI (nI v)] σ (fun u σ' _ => u = some (vI (plf v)) ∧ σ' = σ) (fun _ _ _ => False)) : ml_C z mX6_ordered d 1 [vR (some z.2.1)] S (fun u σ' _ => u = none ∧ or_ok S N E σ') (or_er S N E plf) := by
  refine ml_C_of (by decide) rfl (Nat.le_of_ble_eq_true rfl) ?_
  exact ordered_V (jm := (d, 1, (fun u σ' _ => u = none ∧ or_ok S N E σ'), or_er S N E plf)) hg hd rfl hPl (fun σ G h => ⟨rfl, h⟩) (fun _ _ _ h => h) _
end
