/-! instant of the reference -/
set_option maxRecDepth 100000
def isl : Nat → Nat → MS → MS
  | 0, _, σ => σ
  | f + 1, i, σ => isl f (i + 1) (is1 σ (jg_n (σ.2 70 i)))
def rsl1 (σ : MS) (x : Nat) : MS := re x (pn_hi σ (jg_n (σ.2 56 x)) - pn_lo σ (jg_n (σ.2 56 x))) (pn_lo σ (jg_n (σ.2 56 x))) σ
def rsl : Nat → Nat → MS → MS
  | 0, _, σ => σ
  | f + 1, x, σ => rsl f (x + 1) (rsl1 σ x)
def mcp (σ : MS) (a b M : Nat) : MS := ml_saA σ b (va_cpy (σ.2 a) (σ.2 b) 0 0 M)
/-- the variables of an instant; what is kept; the instant -/
def ins_a (σ : MS) (N : Nat) : MS := isl N 0 (md_fl σ 78 0 N)
def ins_b (σ : MS) (N M I : Nat) : MS := rsl I 0 (mcp (ins_a σ N) 75 76 M)
def ins (σ : MS) (N M I : Nat) : MS := ml_sf (mcp (ins_b σ N M I) 76 75 M) 72 (σ.1 72 + 1)
theorem isl_2 {q : Nat} (h : q ≠ 74) (h2 : q ≠ 77) (h3 : q ≠ 78) : ∀ f i σ, (isl f i σ).2 q = σ.2 q := by
  intro f
  induction f with
  | zero => intro i σ; rfl
  | succ f ih => intro i σ; rw [isl, ih, is1_2 h h2 h3]
theorem isl_1 : ∀ f i σ, (isl f i σ).1 = σ.1 := by
  intro f
  induction f with
  | zero => intro i σ; rfl
  | succ f ih => intro i σ; rw [isl, ih, is1_1]
theorem rsl1_2 {σ : MS} {x q : Nat} (h : q ≠ 76) (h2 : q ≠ 77) : (rsl1 σ x).2 q = σ.2 q := re_2 h h2 _ _ _
theorem rsl1_1 {σ : MS} {x : Nat} : (rsl1 σ x).1 = σ.1 := re_1 _ _ _
theorem rsl_2 {q : Nat} (h : q ≠ 76) (h2 : q ≠ 77) : ∀ f x σ, (rsl f x σ).2 q = σ.2 q := by
  intro f
  induction f with
  | zero => intro x σ; rfl
  | succ f ih => intro x σ; rw [rsl, ih, rsl1_2 h h2]
theorem rsl_1 : ∀ f x σ, (rsl f x σ).1 = σ.1 := by
  intro f
  induction f with
  | zero => intro x σ; rfl
  | succ f ih => intro x σ; rw [rsl, ih, rsl1_1]
theorem mcp_2 {σ : MS} {a b M q : Nat} (h : q ≠ b) : (mcp σ a b M).2 q = σ.2 q := by
  unfold mcp
  funext j
  rw [ml_saA_a, if_neg h]
theorem md_fl_2 {σ : MS} {k N q : Nat} {v : Int32} (h : q ≠ k) : (md_fl σ k v N).2 q = σ.2 q := by
  unfold md_fl
  funext j
  rw [ml_saA_a, if_neg h]
theorem ins_2 {σ : MS} {N M I q : Nat} (h : ¬ (74 ≤ q ∧ q ≤ 78)) : (ins σ N M I).2 q = σ.2 q := by
  show (mcp (ins_b σ N M I) 76 75 M).2 q = _
  rw [mcp_2 (by omega), ins_b, rsl_2 (by omega) (by omega), mcp_2 (by omega), ins_a, isl_2 (by omega) (by omega) (by omega), md_fl_2 (by omega)]
theorem ins_1 {σ : MS} {N M I q : Nat} : (ins σ N M I).1 q = if q = 72 then σ.1 72 + 1 else σ.1 q := by
  unfold ins
  rw [ml_sf_f]
  split
  · rfl
  · show (ins_b σ N M I).1 q = _
    rw [ins_b, rsl_1]
    show (ins_a σ N).1 q = _
    rw [ins_a, isl_1]
    rfl
section
variable {z : MZ} {T : Nat → Int32} {n : Nat} {S : MS} {A Q P L B M C : Nat → Nat} {I : Nat}
theorem X6_instant_C (h : rw_K T n S A Q P L) (hI : rw_I S I B M C) {σ : MS} (hS : ∀ q, q ≤ 64 → σ.2 q = S.2 q) {d : Nat} (h50 : σ.1 50 = nI I) (h51 : σ.1 51 = nI (B I)) (h52 : σ.1 52 = nI (M I)) (ho : ∀ i, i < B I → ∃ v, v < B I ∧ σ.2 70 i = nI v) (hd : 66 ≤ d) : ml_C z mX6_instant d 0 [vR (some z.2.1)] σ (fun u σ' _ => u = none ∧ σ' = ins σ (B I) (M I) I) (fun _ _ _ => False) := by
  have hI32 : I ≤ 3200 := hI.1.2.2.2.2.2.2.1
  have hB6 : B I ≤ 6000 := hI.1.2.2.2.1
  have hM6 : M I ≤ 6000 := hI.1.2.2.2.2.1
  have hN := rw_N h
  have c0 : (0 : Int32).toNatClampNeg = 0 := rfl
  have i0 : (0 : Int32) = nI 0 := rfl
  have cM : (nI (M I)).toNatClampNeg = M I := nI_clamp (by omega)
  have nM : ¬ nI (M I) < 0 := Int32.not_lt.2 (show nI 0 ≤ nI (M I) from nI_le (Nat.zero_le _) (by omega))
  refine ml_C_of (by decide) rfl (Nat.le_of_ble_eq_true rfl) ?_
  generalize hF : ins σ (B I) (M I) I = F
  -- the end
  have last : ∀ σ2 E, (∀ q, σ2.1 q = σ.1 q) → σ2 = ins_b σ (B I) (M I) I → ml_V z mX6_instant (d, 0, (fun u σ' _ => u = none ∧ σ' = F), fun _ _ _ => False) 288 [(0, vR (some z.2.1))] [] σ2 E 0 := by
    intro σ2 E e1 e2
    refine mbinstant_288 (by rw [e1, h52]; exact nM) (by rw [e1, h52, cM, c0]; omega) (by show 1 ≤ d; omega) ?_
    rw [e1, h52, cM, c0]
    refine mbinstant_305 (fun G => ⟨rfl, ?_⟩)
    rw [← hF, ins, ← e2]
    show ml_sf _ 72 (σ2.1 72 + 1) = _
    rw [e1]
    rfl
  have rem : ∀ f x σ2 E, x + f = I → (∀ q, q ≤ 64 → σ2.2 q = S.2 q) → (∀ q, σ2.1 q = σ.1 q) → rsl f x σ2 = ins_b σ (B I) (M I) I → ml_V z mX6_instant (d, 0, (fun u σ' _ => u = none ∧ σ' = F), fun _ _ _ => False) 269 [(0, vR (some z.2.1)), (1, vI (nI x))] [] σ2 E 0 := by
    intro f
    induction f with
    | zero =>
      intro x σ2 E hx hS2 e1 e2
      rw [Nat.add_zero] at hx
      subst hx
      refine mbinstant_269 (fun _ => last σ2 _ e1 e2) (fun u => ?_)
      rw [e1, h50] at u
      exact absurd (nI_le (Nat.le_refl _) (by omega)) u
    | succ f ih =>
      intro x σ2 E hx hS2 e1 e2
      have hxI : x < I := by omega
      obtain ⟨m, r1, r2, -⟩ := hI.2.1 x (Nat.zero_le _) hxI
      obtain ⟨l1, l2⟩ := rw_lohi h r2
      have el : pn_lo σ2 m = P m := by
        rw [← l1]
        unfold pn_lo
        rw [hS2 29 (by omega), hS2 15 (by omega)]
      have eh : pn_hi σ2 m = P (m + 1) := by
        rw [← l2]
        unfold pn_hi
        rw [hS2 27 (by omega), hS2 15 (by omega)]
      have er : rsl1 σ2 x = re x (P (m + 1) - P m) (P m) σ2 := by
        unfold rsl1
        rw [hS2 56 (by omega), r1, jg_n, nI_clamp (by omega), el, eh]
      refine mbinstant_269 (fun u => ?_) (fun _ => ?_)
      · rw [e1, h50] at u
        exact absurd u (Int32.not_le.2 (nI_lt hxI (by omega)))
      · refine mbinstant_277 (d' := 64) (b' := 0) (X6_remember_C h hI hS2 hxI r1 r2 (by omega)) (by show 64 + 1 ≤ d; omega) (Nat.zero_le _) (ml_kr0 fun σ3 g => ?_) ml_no
        subst g
        refine mbinstant_282 ?_
        rw [nI_1]
        rw [← er]
        exact ih (x + 1) _ _ (by omega) (fun q hq => by rw [rsl1_2 (by omega) (by omega)]; exact hS2 q hq) (fun q => by rw [rsl1_1]; exact e1 q) e2
  have vars : ∀ f i σ2 E, i + f = B I → (∀ q, q ≤ 64 → σ2.2 q = S.2 q) → (∀ q, σ2.1 q = σ.1 q) → σ2.2 70 = σ.2 70 → isl f i σ2 = ins_a σ (B I) → ml_V z mX6_instant (d, 0, (fun u σ' _ => u = none ∧ σ' = F), fun _ _ _ => False) 25 [(0, vR (some z.2.1)), (1, vI (nI i))] [] σ2 E 0 := by
    intro f
    induction f with
    | zero =>
      intro i σ2 E hi hS2 e1 e70 e2
      rw [Nat.add_zero] at hi
      refine mbinstant_25 (fun _ => ?_) (fun u => ?_)
      · refine mbinstant_250 (by rw [e1, h52]; exact nM) (by rw [e1, h52, cM, c0]; omega) (by show 1 ≤ d; omega) (mbinstant_267 ?_)
        rw [e1, h52, cM, c0, i0]
        refine rem I 0 (mcp σ2 75 76 (M I)) _ (Nat.zero_add _) (fun q hq => by rw [mcp_2 (by omega)]; exact hS2 q hq) e1 ?_
        rw [isl] at e2
        rw [ins_b, e2]
      · rw [e1, h51, hi] at u
        exact absurd (nI_le (Nat.le_refl _) (by omega)) u
    | succ f ih =>
      intro i σ2 E hi hS2 e1 e70 e2
      obtain ⟨v, v1, v2⟩ := ho i (by omega)
      rw [← e70] at v2
      rw [isl, v2, jg_n, nI_clamp (by omega)] at e2
      refine mbinstant_25 (fun u => ?_) (fun _ => ?_)
      · rw [e1, h51] at u
        exact absurd u (Int32.not_le.2 (nI_lt (by omega) (by omega)))
      · refine is_step h hI hS2 v1 (by omega) v2 (by show 63 ≤ d; omega) (fun E => mbinstant_244 ?_)
        rw [nI_1]
        exact ih (i + 1) _ _ (by omega) (fun q hq => by rw [is1_2 (by omega) (by omega) (by omega)]; exact hS2 q hq) (fun q => by rw [is1_1]; exact e1 q) (by rw [is1_2 (by omega) (by omega) (by omega)]; exact e70) e2
  have clr : ∀ f i E, i + f = B I → ml_V z mX6_instant (d, 0, (fun u σ' _ => u = none ∧ σ' = F), fun _ _ _ => False) 2 [(0, vR (some z.2.1)), (1, vI (nI i))] [] (md_fl σ 78 0 i) E 0 := by
    intro f
    induction f with
    | zero =>
      intro i E hi
      rw [Nat.add_zero] at hi
      refine mbinstant_2 (fun _ => mbinstant_23 ?_) (fun u => ?_)
      · rw [i0]
        exact vars (B I) 0 _ _ (Nat.zero_add _) (fun q hq => by rw [md_fl_2 (by omega)]; exact hS q hq) (fun q => rfl) (md_fl_2 (by omega)) (by rw [hi]; rfl)
      · have : (md_fl σ 78 0 i).1 51 = nI i := by rw [hi]; exact h51
        rw [this] at u
        exact absurd (nI_le (Nat.le_refl _) (by omega)) u
    | succ f ih =>
      intro i E hi
      refine mbinstant_2 (fun u => ?_) (fun _ => ?_)
      · have : (md_fl σ 78 0 i).1 51 = nI (B I) := h51
        rw [this] at u
        exact absurd u (Int32.not_le.2 (nI_lt (by omega) (by omega)))
      · refine mbinstant_10 (vp_in_nI (by omega) (by decide)) ?_
        rw [nI_clamp (by omega), md_fl_s, nI_1]
        exact ih (i + 1) _ (by omega)
  refine mbinstant_0 ?_
  rw [i0]
  have := clr (B I) 0 (fun _ => True) (Nat.zero_add _)
  rw [md_fl_0] at this
  exact fun G a b _ => this G a b trivial
end
