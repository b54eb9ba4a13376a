/-! the graph of causes; caused(a, b) of the reference -/
set_option maxRecDepth 100000
section
variable {T : Nat → Int32} {n : Nat} {S : MS} {A Q P L B M C : Nat → Nat} {I : Nat}
theorem rw_edges (h : rw_K T n S A Q P L) (hI : rw_I S I B M C) {v : Nat} (hv : v < B I) : ∀ c ∈ cl_v S v, isV (B I) c := by
  obtain ⟨x, m, t, x1, x2, x3, x4, x5, x6, x7, x8, x9, x10, x11, x12⟩ := rw_var hI h hv
  obtain ⟨i, o, hn⟩ := h.1.2.1 m x2
  obtain ⟨d1, d2, d3, d4, d5, d6, d7⟩ := nf_cnt hn
  obtain ⟨v1, v2, v3, v4⟩ := rw_av h x2
  obtain ⟨⟨a1, a2, a3, a4, a5, a6⟩, ⟨b1, b2, b3, b4, b5, b6, b7, b8, b9, b10, b11, b12, b13, b14⟩, -, -, -, f1, -⟩ := id hn
  have hI32 : I ≤ 3200 := hI.1.2.2.2.2.2.2.1
  have hN := rw_N h
  have ct : jg_n (nI t) = t := nI_clamp (by omega)
  have ei : jg_n (S.2 13 m) = i := by rw [a3, jg_n, nI_clamp (by omega)]
  have elk : ∀ y m b i, y < I → S.2 56 y = nI m → m < pr_N S → P m ≤ b → b < P (m + 1) → (S.2 32 b = 3 → i < jg_n (S.2 14 (jg_n (S.2 33 b)))) → ∀ c ∈ cl_b S y b (nI i), isV (B I) c := by
    intro y m b i y1 y2 y3 y4 y5 y6 c hc
    unfold cl_b at hc
    by_cases u : S.2 32 b = 3
    · rw [if_pos u] at hc
      rw [List.mem_singleton.1 hc]
      exact rw_out h hI y1 y2 y3 y4 y5 u (y6 u)
    · rw [if_neg u] at hc
      exact el_ok h hI y1 y2 y3 (b + 1) b (by omega) y4 y5 c hc
  intro c hc
  unfold cl_v at hc
  rw [x9, x10, x11, x8, ct] at hc
  rcases List.mem_append.1 hc with hc | hc
  · unfold cl_c at hc
    have hq : S.2 22 (A m + t) = -1 ∨ ∃ w, w < 2 ^ 30 ∧ S.2 22 (A m + t) = nI w ∧ w / 2 < vcn S m := by
      have := f1 (A m + t) (by rw [v1]; omega) (by rw [v2]; omega)
      rw [v1] at this
      rcases this with r | ⟨w, w1, w2, w3, -⟩
      · exact Or.inl r
      · exact Or.inr ⟨w, w1, w2, by omega⟩
    rcases md_cv_ok h hI (x + 1) x _ m (by omega) x1 x3 x2 hq with r | r
    · rw [r, if_pos (by decide)] at hc
      cases hc
    · split at hc
      · cases hc
      · rw [List.mem_singleton.1 hc]
        exact r
  · split at hc
    · rename_i u
      have hit : jg_n (S.2 13 m) ≤ t := by
        rw [a3] at u
        rw [ei]
        exact (nI_leI (by omega) (by omega)).1 u
      obtain ⟨k, b, j, l1, k1, k2, k3, k4, k5, k6, k7, k8, k9, k10, k11, k12, k13⟩ := rw_def h x2 x6 hit
      have ck : jg_n (nI k) = k := nI_clamp (by omega)
      have cb : jg_n (nI b) = b := nI_clamp (by omega)
      rw [k3, ck, k4, cb, k8] at hc
      exact elk x m b (j - l1) x1 x3 x2 k5 k6 (fun h3 => nf_outs hn k1 k2 k4 k6 k12 k9 k10 k13 h3) c hc
    · rename_i u
      split at hc
      · cases hc
      · rename_i w
        have hit : t < jg_n (S.2 13 m) := by
          rw [ei]
          rcases Nat.lt_or_ge t i with y | y
          · exact y
          · exact absurd (by rw [a3]; exact nI_le y (by omega)) u
        obtain ⟨y, e, m', r1, r2, r3, r4, r5, r6, r7, r8, r9, r10, r11, r12, r13, r14, r15⟩ := rw_arg h hI x1 x3 x2 w hit
        obtain ⟨z1, z2⟩ := r12 _ (getD_mem r14)
        have cy : jg_n (nI y) = y := nI_clamp (by omega)
        have ce : jg_n (nI e) = e := nI_clamp (by omega)
        rw [r2, cy, r3, ce] at hc
        exact elk y m' _ 0 (by omega) r4 r5 z1 (by omega) (fun h3 => rw_o1 h r5 z1 (by omega) h3) c hc
/-- the causes of v as numbers -/
def gE (S : MS) (v : Nat) : List Nat := (cl_v S v).map jg_n
/-- the graph in the arrays: N variables, the causes E -/
def gr (σ : MS) (N : Nat) (Ce : Nat → Nat) (E : Nat → List Nat) : Prop := N ≤ 6000 ∧ σ.1 51 = nI N ∧ (∀ v, v ≤ N → σ.2 65 v = nI (Ce v) ∧ Ce v ≤ 40000) ∧ ∀ v, v < N → Ce (v + 1) = Ce v + (E v).length ∧ ∀ j w, (E v)[j]? = some w → σ.2 66 (Ce v + j) = nI w ∧ w < N
theorem gr.cg {σ σ' : MS} {N : Nat} {Ce : Nat → Nat} {E : Nat → List Nat} (h : gr σ N Ce E) (h1 : σ'.1 51 = σ.1 51) (h65 : σ'.2 65 = σ.2 65) (h66 : σ'.2 66 = σ.2 66) : gr σ' N Ce E := by
  unfold gr
  rw [h1, h65, h66]
  exact h
theorem rw_gr (h : rw_K T n S A Q P L) (hI : rw_I S I B M C) (h51 : S.1 51 = nI (B I)) (hb : ce S (B I) ≤ 40000) {σ : MS} (hg : cg_I S σ (B I)) : gr (ml_sa σ 65 (B I) (σ.1 67)) (B I) (ce S) (gE S) := by
  have hB6 : B I ≤ 6000 := hI.1.2.2.2.1
  refine ⟨hB6, by rw [ml_sa_f, hg.2.1 51 (by omega)]; exact h51, fun v hv => ⟨?_, ?_⟩, fun v hv => ⟨?_, fun j w hj => ?_⟩⟩
  · rw [ml_sa_a, if_pos rfl]
    rcases Nat.lt_or_ge v (B I) with u | u
    · rw [if_neg (by omega)]
      exact (hg.2.2.2 v u).1
    · have : v = B I := by omega
      rw [if_pos this, this]
      exact hg.2.2.1
  · have := ce_mono (S := S) (B I - v) v
    rw [show v + (B I - v) = B I by omega] at this
    omega
  · rw [ce, gE, List.length_map]
  · unfold gE at hj
    rw [List.getElem?_map] at hj
    cases hc : (cl_v S v)[j]? with
    | none => rw [hc] at hj; cases hj
    | some c =>
      rw [hc] at hj
      have hw : jg_n c = w := Option.some.inj hj
      obtain ⟨u, u1, u2⟩ := rw_edges h hI hv c (List.mem_of_getElem? hc)
      rw [ml_sa_a, if_neg (by omega), (hg.2.2.2 v hv).2 j c hc]
      rw [u2, jg_n, nI_clamp (by omega)] at hw
      rw [u2, hw]
      exact ⟨rfl, by omega⟩
end
/-- from a to b in k steps -/
def rn (E : Nat → List Nat) : Nat → Nat → Nat → Prop
  | 0, a, b => a = b
  | k + 1, a, b => ∃ w ∈ E a, rn E k w b
theorem rn_app {E : Nat → List Nat} : ∀ k k' a b c, rn E k a b → rn E k' b c → rn E (k + k') a c := by
  intro k
  induction k with
  | zero =>
    intro k' a b c h h2
    have : a = b := h
    rw [this, Nat.zero_add]
    exact h2
  | succ k ih =>
    intro k' a b c h h2
    obtain ⟨w, w1, w2⟩ := h
    rw [show k + 1 + k' = (k + k') + 1 by omega]
    exact ⟨w, w1, ih k' w b c w2 h2⟩
/-- b is among the causes of a, and theirs -/
def rch (E : Nat → List Nat) (a b : Nat) : Prop := ∃ k, rn E (k + 1) a b
/-- how many below N aren't reached -/
def unr (f : Nat → Int32) : Nat → Nat
  | 0 => 0
  | N + 1 => unr f N + if f N = 0 then 1 else 0
theorem unr_le {f : Nat → Int32} : ∀ N, unr f N ≤ N := by
  intro N
  induction N with
  | zero => exact Nat.le_refl _
  | succ N ih =>
    rw [unr]
    split <;> omega
theorem unr_cg {f g : Nat → Int32} : ∀ N, (∀ v, v < N → f v = g v) → unr f N = unr g N := by
  intro N
  induction N with
  | zero => intro _; rfl
  | succ N ih =>
    intro h
    rw [unr, unr, ih (fun v hv => h v (by omega)), h N (by omega)]
theorem unr_set {f : Nat → Int32} {c : Nat} {x : Int32} (h0 : f c = 0) (hx : x ≠ 0) : ∀ N, c < N → unr (fun j => if j = c then x else f j) N + 1 = unr f N := by
  intro N
  induction N with
  | zero => intro h; omega
  | succ N ih =>
    intro h
    rw [unr, unr]
    by_cases u : N = c
    · have e1 : unr (fun j => if j = c then x else f j) N = unr f N := unr_cg N (fun v hv => if_neg (by omega))
      have e2 : (if N = c then x else f N) = x := if_pos u
      rw [e1]
      show unr f N + (if (if N = c then x else f N) = 0 then 1 else 0) + 1 = _
      rw [e2, if_neg hx, u, if_pos h0]
    · have e2 : (if N = c then x else f N) = f N := if_neg u
      show unr (fun j => if j = c then x else f j) N + (if (if N = c then x else f N) = 0 then 1 else 0) + 1 = _
      rw [e2]
      have := ih (by omega)
      omega
theorem unr_pos {f : Nat → Int32} {c : Nat} (h0 : f c = 0) : ∀ N, c < N → 1 ≤ unr f N := by
  intro N
  induction N with
  | zero => intro h; omega
  | succ N ih =>
    intro h
    rw [unr]
    by_cases u : N = c
    · rw [u, if_pos h0]; omega
    · have := ih (by omega); omega
section
variable {z : MZ} {N a b : Nat} {Ce : Nat → Nat} {E : Nat → List Nat} {S : MS}
/-- the search's state: n on the stack -/
def ca_I (S : MS) (E : Nat → List Nat) (N a b : Nat) (σ : MS) (n : Nat) (ex : Nat → Prop) : Prop :=
  (σ.1 = S.1 ∧ ∀ q, q ≠ 68 → q ≠ 69 → σ.2 q = S.2 q) ∧ (∀ j, j < n → ∃ u, u < N ∧ σ.2 69 j = nI u ∧ (u = a ∨ σ.2 68 u ≠ 0)) ∧ (∀ u, u < N → σ.2 68 u ≠ 0 → rch E a u) ∧
  (∀ u, u < N → (u = a ∨ σ.2 68 u ≠ 0) → ex u ∨ (∃ j, j < n ∧ σ.2 69 j = nI u) ∨ ∀ w ∈ E u, w ≠ b ∧ σ.2 68 w ≠ 0) ∧ n + unr (σ.2 68) N ≤ N + 1
theorem ca_end {σ : MS} (hE : ∀ v, v < N → ∀ w ∈ E v, w < N) (ha : a < N) (h : ca_I S E N a b σ 0 (fun _ => False)) : ¬ rch E a b := by
  obtain ⟨-, -, -, h4, -⟩ := h
  have cl : ∀ u, u < N → (u = a ∨ σ.2 68 u ≠ 0) → ∀ w ∈ E u, w ≠ b ∧ σ.2 68 w ≠ 0 := fun u hu h => by
    rcases h4 u hu h with r | ⟨j, hj, -⟩ | r
    · exact r.elim
    · omega
    · exact r
  have main : ∀ k u, u < N → (u = a ∨ σ.2 68 u ≠ 0) → ¬ rn E (k + 1) u b := by
    intro k
    induction k with
    | zero =>
      rintro u hu h ⟨w, w1, w2⟩
      exact (cl u hu h w w1).1 w2
    | succ k ih =>
      rintro u hu h ⟨w, w1, w2⟩
      exact ih w (hE u hu w w1) (Or.inr (cl u hu h w w1).2) w2
  rintro ⟨k, hk⟩
  exact main k a ha (Or.inl rfl) hk
theorem caused_V {jm : MJ} (hg : gr S N Ce E) (ha : a < N) (hb : b < N) (hP : ∀ v σ' G, (((v = some (vI 1) ∧ rch E a b) ∨ (v = some (vI 0) ∧ ¬ rch E a b)) ∧ σ'.1 = S.1 ∧ ∀ q, q ≠ 68 → q ≠ 69 → σ'.2 q = S.2 q) → jm.2.2.1 v σ' G) (E9 : GH → Prop) : ml_V z mX6_caused jm 2 [(0, vR (some z.2.1)), (1, vI (nI a)), (2, vI (nI b)), (3, vI (nI 0))] [] S E9 jm.2.1 := by
  obtain ⟨hN, h51, h65, hEd⟩ := hg
  have hE : ∀ v, v < N → ∀ w ∈ E v, w < N := fun v hv w hw => by
    obtain ⟨j, hj⟩ := List.getElem?_of_mem hw
    exact ((hEd v hv).2 j w hj).2
  have outer : ∀ f σ n E', 2 * unr (σ.2 68) N + n < f → ca_I S E N a b σ n (fun _ => False) → ml_V z mX6_caused jm 35 [(0, vR (some z.2.1)), (2, vI (nI b)), (3, vI (nI n))] [] σ E' jm.2.1 := by
    intro f
    induction f with
    | zero => intro σ n E' h; omega
    | succ f ih =>
      intro σ n E' hf hI
      have hu := unr_le (f := σ.2 68) N
      obtain ⟨⟨i1, i2⟩, i3, i4, i5, i6⟩ := id hI
      refine mbcaused_35 (fun q => ?_) (fun q => ?_)
      · have hn : n = 0 := by
          have := (nI_leI (a := n) (b := 0) (by omega) (by omega)).1 q
          omega
        subst hn
        exact mbcaused_131 (fun G _ => hP _ _ _ ⟨Or.inr ⟨rfl, ca_end hE ha hI⟩, i1, i2⟩)
      · have hn : 0 < n := by
          rcases Nat.eq_zero_or_pos n with u | u
          · rw [u] at q; exact absurd (Int32.le_refl _) q
          · exact u
        obtain ⟨n', rfl⟩ : ∃ n', n = n' + 1 := ⟨n - 1, by omega⟩
        obtain ⟨v, v1, v2, v3⟩ := i3 n' (by omega)
        have cn : (nI n').toNatClampNeg = n' := nI_clamp (by omega)
        have cv : (nI v).toNatClampNeg = v := nI_clamp (by omega)
        refine mbcaused_39 (by rw [nI_m1]; exact vp_in_nI (by omega) (by decide)) (by rw [nI_m1, cn, v2]; exact vp_in_nI (by omega) (by decide)) ?_
        rw [nI_m1, cn, v2, cv, i2 65 (by omega) (by omega), (h65 v (by omega)).1]
        have hC := (hEd v v1).1
        have hCb := (h65 (v + 1) (by omega)).2
        have hvr : ∀ u, u ∈ E v → rch E a u := fun u hu => by
          rcases v3 with r | r
          · rw [r] at hu
            exact ⟨0, u, hu, rfl⟩
          · obtain ⟨k, hk⟩ := i4 v v1 r
            exact ⟨k + 1, rn_app (k + 1) 1 a v u hk ⟨u, hu, rfl⟩⟩
        have inner : ∀ m j σ n E', j + m = (E v).length → 2 * unr (σ.2 68) N + n < f → ca_I S E N a b σ n (fun u => u = v) → (∀ i w, i < j → (E v)[i]? = some w → w ≠ b ∧ σ.2 68 w ≠ 0) → ml_V z mX6_caused jm 59 [(0, vR (some z.2.1)), (2, vI (nI b)), (3, vI (nI n)), (4, vI (nI v)), (5, vI (nI (Ce v + j)))] [] σ E' jm.2.1 := by
          intro m
          induction m with
          | zero =>
            intro j σ n E' hj hf hI hp
            obtain ⟨⟨i1, i2⟩, i3, i4, i5, i6⟩ := id hI
            refine mbcaused_59 (by rw [nI_1]; exact vp_in_nI (by omega) (by decide)) (fun _ => mbcaused_128 ?_) (fun q => absurd ?_ q)
            · refine ih σ n _ hf ⟨⟨i1, i2⟩, i3, i4, fun u hu h => ?_, i6⟩
              rcases i5 u hu h with r | r | r
              · right; right
                intro w hw
                rw [r] at hw
                obtain ⟨i, hi⟩ := List.getElem?_of_mem hw
                have hil : i < (E v).length := by
                  rcases Nat.lt_or_ge i (E v).length with y | y
                  · exact y
                  · rw [List.getElem?_eq_none y] at hi; cases hi
                exact hp i w (by omega) hi
              · exact Or.inr (Or.inl r)
              · exact Or.inr (Or.inr r)
            · rw [nI_1, nI_clamp (by omega), i2 65 (by omega) (by omega), (h65 (v + 1) (by omega)).1]
              exact nI_le (by omega) (by omega)
          | succ m ihm =>
            intro j σ n E' hj hf hI hp
            obtain ⟨⟨i1, i2⟩, i3, i4, i5, i6⟩ := id hI
            have hu := unr_le (f := σ.2 68) N
            have hjl : j < (E v).length := by omega
            have hget : (E v)[j]? = some (E v)[j] := List.getElem?_eq_getElem hjl
            obtain ⟨e66, hw⟩ := (hEd v v1).2 j _ hget
            have hmem : (E v)[j] ∈ E v := List.getElem_mem hjl
            generalize (E v)[j] = w at hget e66 hw hmem
            have cw : (nI w).toNatClampNeg = w := nI_clamp (by omega)
            have cj : (nI (Ce v + j)).toNatClampNeg = Ce v + j := nI_clamp (by omega)
            have ew : σ.2 66 (nI (Ce v + j)).toNatClampNeg = nI w := by rw [cj, i2 66 (by omega) (by omega)]; exact e66
            refine mbcaused_59 (by rw [nI_1]; exact vp_in_nI (by omega) (by decide)) (fun q => ?_) (fun _ => ?_)
            · rw [nI_1, nI_clamp (n := v + 1) (by omega), i2 65 (by omega) (by omega), (h65 (v + 1) (by omega)).1] at q
              exact absurd ((nI_leI (by omega) (by omega)).1 q) (by omega)
            refine mbcaused_73 (vp_in_nI (by omega) (by decide)) (fun q => ?_) (fun q => ?_)
            · rw [ew] at q ⊢
              have hwb : w ≠ b := fun u => q (by rw [u])
              refine mbcaused_90 (vp_in_nI (by omega) (by decide)) (fun q2 => ?_) (fun q2 => ?_)
              · rw [cw] at q2
                have hpos := unr_pos q2 N hw
                refine mbcaused_103 (vp_in_nI (by omega) (by decide)) (vp_in_nI (by omega) (by decide)) (mbcaused_122 ?_)
                rw [cw, nI_clamp (n := n) (by omega), nI_1, nI_1, show Ce v + j + 1 = Ce v + (j + 1) by omega]
                have e68 : (ml_sa (ml_sa σ 68 w 1) 69 n (nI w)).2 68 = fun i => if i = w then 1 else σ.2 68 i := funext fun i => by
                  rw [ml_sa_a, if_neg (by omega), ml_sa_a, if_pos rfl]
                have e69 : ∀ i, (ml_sa (ml_sa σ 68 w 1) 69 n (nI w)).2 69 i = if i = n then nI w else σ.2 69 i := fun i => by
                  rw [ml_sa_a, if_pos rfl]
                  rfl
                have hset := unr_set (x := 1) q2 (by decide) N hw
                have mono : ∀ u, σ.2 68 u ≠ 0 → (if u = w then (1 : Int32) else σ.2 68 u) ≠ 0 := fun u h => by
                  split
                  · decide
                  · exact h
                refine ihm (j + 1) _ (n + 1) _ (by omega) (by rw [e68]; omega) ⟨⟨i1, fun q q1 q2 => by rw [← i2 q q1 q2]; funext i; rw [ml_sa_a, if_neg q2, ml_sa_a, if_neg q1]⟩, fun i hi => ?_, fun u hu h => ?_, fun u hu h => ?_, by rw [e68]; omega⟩ (fun i x hi hx => ?_)
                · rw [e68, e69]
                  by_cases u : i = n
                  · rw [if_pos u]
                    exact ⟨w, hw, rfl, Or.inr (by show (if w = w then (1 : Int32) else _) ≠ 0; rw [if_pos rfl]; decide)⟩
                  · rw [if_neg u]
                    obtain ⟨x, x1, x2, x3⟩ := i3 i (by omega)
                    exact ⟨x, x1, x2, x3.imp id (mono x)⟩
                · rw [e68] at h
                  by_cases y : u = w
                  · rw [y]; exact hvr w hmem
                  · have h' : σ.2 68 u ≠ 0 := by
                      have : (if u = w then (1 : Int32) else σ.2 68 u) ≠ 0 := h
                      rw [if_neg y] at this
                      exact this
                    exact i4 u hu h'
                · rw [e68] at h ⊢
                  by_cases y : u = w
                  · exact Or.inr (Or.inl ⟨n, by omega, by rw [e69, if_pos rfl, y]⟩)
                  · have h' : u = a ∨ σ.2 68 u ≠ 0 := h.imp id (fun h => by
                      have : (if u = w then (1 : Int32) else σ.2 68 u) ≠ 0 := h
                      rw [if_neg y] at this
                      exact this)
                    rcases i5 u hu h' with r | ⟨i, r1, r2⟩ | r
                    · exact Or.inl r
                    · exact Or.inr (Or.inl ⟨i, by omega, by rw [e69, if_neg (by omega)]; exact r2⟩)
                    · exact Or.inr (Or.inr fun x hx => ⟨(r x hx).1, mono x (r x hx).2⟩)
                · rw [e68]
                  rcases Nat.lt_or_ge i j with y | y
                  · obtain ⟨r1, r2⟩ := hp i x y hx
                    exact ⟨r1, mono x r2⟩
                  · have : i = j := by omega
                    subst this
                    rw [hget] at hx
                    have hx := Option.some.inj hx
                    subst hx
                    exact ⟨hwb, by show (if w = w then (1 : Int32) else _) ≠ 0; rw [if_pos rfl]; decide⟩
              · rw [cw] at q2
                refine mbcaused_100 (mbcaused_122 ?_)
                rw [nI_1, show Ce v + j + 1 = Ce v + (j + 1) by omega]
                refine ihm (j + 1) σ n _ (by omega) hf hI (fun i x hi hx => ?_)
                rcases Nat.lt_or_ge i j with y | y
                · exact hp i x y hx
                · have : i = j := by omega
                  subst this
                  rw [hget] at hx
                  have hx := Option.some.inj hx
                  subst hx
                  exact ⟨hwb, q2⟩
            · rw [ew] at q
              have hwb : w = b := (nI_eq (by omega) (by omega)).1 q
              exact mbcaused_88 (fun G _ => hP _ _ _ ⟨Or.inl ⟨rfl, by rw [← hwb]; exact hvr w hmem⟩, i1, i2⟩)
        have hex : ∀ u, u < N → (u = a ∨ σ.2 68 u ≠ 0) → u = v ∨ (∃ j, j < n' ∧ σ.2 69 j = nI u) ∨ ∀ w ∈ E u, w ≠ b ∧ σ.2 68 w ≠ 0 := fun u hu h => by
          rcases i5 u hu h with r | ⟨j, r1, r2⟩ | r
          · exact r.elim
          · rcases Nat.lt_or_ge j n' with y | y
            · exact Or.inr (Or.inl ⟨j, y, r2⟩)
            · have : j = n' := by omega
              subst this
              rw [v2] at r2
              exact Or.inl ((nI_eq (by omega) (by omega)).1 r2).symm
          · exact Or.inr (Or.inr r)
        have h0 := fun E9 => inner (E v).length 0 σ n' E9 (by omega) (by omega) ⟨⟨i1, i2⟩, fun j hj => i3 j (by omega), i4, hex, by omega⟩ (fun i w hi => by omega)
        exact h0 _
  have clear : ∀ m v σ E', v + m = N → σ.1 = S.1 → (∀ q, q ≠ 68 → q ≠ 69 → σ.2 q = S.2 q) → (∀ u, u < v → σ.2 68 u = 0) → ml_V z mX6_caused jm 2 [(0, vR (some z.2.1)), (1, vI (nI a)), (2, vI (nI b)), (3, vI (nI v))] [] σ E' jm.2.1 := by
    intro m
    induction m with
    | zero =>
      intro v σ E' hv h1 h2 h3
      have ev : v = N := by omega
      subst ev
      refine mbcaused_2 (fun _ => ?_) (fun q => absurd (by rw [h1, h51]; exact nI_le (Nat.le_refl _) (by omega)) q)
      refine mbcaused_23 (vp_in_nI (n := 0) (by decide) (by decide)) ?_
      have e0 : (0 : Int32) + 1 = nI 1 := rfl
      have e1 : (0 : Int32).toNatClampNeg = 0 := rfl
      rw [e0, e1]
      have e68 : (ml_sa σ 69 0 (nI a)).2 68 = σ.2 68 := funext fun i => by rw [ml_sa_a, if_neg (by omega)]
      have hu : unr (σ.2 68) v ≤ v := unr_le v
      refine outer (3 * v + 3) _ 1 _ (by rw [e68]; omega) ⟨⟨h1, fun q q1 q2 => by rw [← h2 q q1 q2]; funext i; rw [ml_sa_a, if_neg q2]⟩, fun j hj => ⟨a, ha, by rw [ml_sa_a, if_pos rfl, if_pos (by omega)], Or.inl rfl⟩, fun u hu h => ?_, fun u hu h => ?_, by rw [e68]; omega⟩
      · rw [e68] at h
        exact absurd (h3 u hu) h
      · rw [e68] at h
        have : u = a := h.resolve_right (fun y => y (h3 u hu))
        exact Or.inr (Or.inl ⟨0, by omega, by rw [ml_sa_a, if_pos rfl, if_pos rfl, this]⟩)
    | succ m ih =>
      intro v σ E' hv h1 h2 h3
      have cv : (nI v).toNatClampNeg = v := nI_clamp (by omega)
      refine mbcaused_2 (fun q => ?_) (fun _ => ?_)
      · rw [h1, h51] at q
        exact absurd ((nI_leI (by omega) (by omega)).1 q) (by omega)
      · refine mbcaused_10 (vp_in_nI (by omega) (by decide)) ?_
        rw [cv, nI_1]
        refine ih (v + 1) _ _ (by omega) h1 (fun q q1 q2 => by rw [← h2 q q1 q2]; funext i; rw [ml_sa_a, if_neg q1]) (fun u hu => ?_)
        rw [ml_sa_a, if_pos rfl]
        split
        · rfl
        · exact h3 u (by omega)
  exact clear N 0 S _ (by omega) rfl (fun _ _ _ => rfl) (fun u hu => by omega)
theorem X6_caused_C {d : Nat} (hg : gr S N Ce E) (ha : a < N) (hb : b < N) : ml_C z mX6_caused d 0 [vR (some z.2.1), vI (nI a), vI (nI b)] S (fun v σ' _ => ((v = some (vI 1) ∧ rch E a b) ∨ (v = some (vI 0) ∧ ¬ rch E a b)) ∧ σ'.1 = S.1 ∧ ∀ q, q ≠ 68 → q ≠ 69 → σ'.2 q = S.2 q) (fun _ _ _ => False) := by
  refine ml_C_of (by decide) rfl (Nat.le_of_ble_eq_true rfl) ?_
  refine mbcaused_0 ?_
  exact caused_V hg ha hb (fun v σ' G h => h) _
end
