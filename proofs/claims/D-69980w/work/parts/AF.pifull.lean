/-! putIn: what it leaves -/
set_option maxRecDepth 100000
def pi_c (S : MS) (x c s a : Nat) : Prop := S.1 50 = nI x ∧ S.1 54 = nI c ∧ S.1 52 = nI s ∧ S.1 51 = nI a
theorem nx_t_le {g : Int32 → Nat} {B : Nat → Int32} {p : Nat} (hg : ∀ s, g s ≤ 2) : ∀ m, nx_t g B p m ≤ 2 * m := by
  intro m
  induction m with
  | zero => exact Nat.zero_le _
  | succ m ih =>
    rw [nx_t]
    have := hg (B (p + m))
    omega
theorem nx_s_le (s : Int32) : nx_s s ≤ 2 := by
  unfold nx_s
  split
  · omega
  · split <;> omega
theorem nx_q_le (s : Int32) : nx_q s ≤ 2 := by
  unfold nx_q
  split <;> omega
theorem nx_t_mono {g : Int32 → Nat} {B : Nat → Int32} {p : Nat} : ∀ m m', nx_t g B p m ≤ nx_t g B p (m + m') := by
  intro m m'
  induction m' with
  | zero => exact Nat.le_refl _
  | succ m' ih =>
    rw [← Nat.add_assoc, nx_t]
    omega
theorem nf_cnt {T : Nat → Int32} {n f a a' i o q q' p p' l l' : Nat} {S : MS} (h : nf T n S f a a' i o q q' p p' l l') : S.2 17 f = nI (stn S f) ∧ S.2 16 f = nI (kcn S f) ∧ S.2 12 f = nI a ∧ S.2 12 (f + 1) = nI (a + vcn S f) ∧ vcn S f = a' - a ∧ stn S f = nx_t nx_s (S.2 32) p (p' - p) ∧ kcn S f = nx_t nx_q (S.2 32) p (p' - p) := by
  obtain ⟨⟨a1, a2, a3, a4, a5, a6⟩, ⟨b1, b2, b3, b4, b5, b6, b7, b8, b9, b10, b11, b12, b13, b14⟩, -, d1, ⟨e1, e2⟩, -⟩ := id h
  have h1 := nx_t_le (B := S.2 32) (p := p) nx_s_le (p' - p)
  have h2 := nx_t_le (B := S.2 32) (p := p) nx_q_le (p' - p)
  have s1 : stn S f = nx_t nx_s (S.2 32) p (p' - p) := by rw [stn, e1, jg_n, nI_clamp (by omega)]
  have s2 : kcn S f = nx_t nx_q (S.2 32) p (p' - p) := by rw [kcn, e2, jg_n, nI_clamp (by omega)]
  have s3 : vcn S f = a' - a := by rw [vcn, a1, a2, jg_n, jg_n, nI_clamp (n := a) (by omega), nI_clamp (n := a') (by omega)]
  exact ⟨by rw [s1]; exact e1, by rw [s2]; exact e2, a1, by rw [s3, show a + (a' - a) = a' by omega]; exact a2, s3, s1, s2⟩
/-- a call's number among the calls of its node -/
theorem nf_37 {T : Nat → Int32} {n f a a' i o q q' p p' l l' e : Nat} {S : MS} (h : nf T n S f a a' i o q q' p p' l l') (h1 : p ≤ e) (h2 : e < p') (h3 : S.2 32 e = 3) : S.2 37 e = nI (jg_n (S.2 37 e)) ∧ jg_n (S.2 37 e) = nx_t nx_q (S.2 32) p (e - p) ∧ jg_n (S.2 37 e) < kcn S f := by
  obtain ⟨s1, s2, s3, s4, s5, s6, s7⟩ := nf_cnt h
  have e37 := (h.2.2.2.1 e h1 h2).2.1.2 h3
  have hp' : p' ≤ 5000 := h.2.1.2.2.2.2.2.2.2.1
  have hle := nx_t_le (B := S.2 32) (p := p) nx_q_le (e - p)
  have hj : jg_n (S.2 37 e) = nx_t nx_q (S.2 32) p (e - p) := by rw [e37, jg_n, nI_clamp (by omega)]
  refine ⟨by rw [hj]; exact e37, hj, ?_⟩
  rw [hj, s7]
  have hm := nx_t_mono (g := nx_q) (B := S.2 32) (p := p) (e - p + 1) (p' - p - (e - p + 1))
  rw [show e - p + 1 + (p' - p - (e - p + 1)) = p' - p by omega, nx_t, show p + (e - p) = e by omega, h3] at hm
  have : nx_q 3 = 1 := rfl
  omega
/-- calls are numbered upward -/
theorem nf_37_lt {T : Nat → Int32} {n f a a' i o q q' p p' l l' e e' : Nat} {S : MS} (h : nf T n S f a a' i o q q' p p' l l') (h1 : p ≤ e') (h2 : e < p') (h3 : S.2 32 e = 3) (h4 : S.2 32 e' = 3) (h5 : e' < e) : jg_n (S.2 37 e') < jg_n (S.2 37 e) := by
  rw [(nf_37 h (by omega) h2 h3).2.1, (nf_37 h h1 (by omega) h4).2.1]
  have hm := nx_t_mono (g := nx_q) (B := S.2 32) (p := p) (e' - p + 1) (e - p - (e' - p + 1))
  rw [show e' - p + 1 + (e - p - (e' - p + 1)) = e - p by omega, nx_t, show p + (e' - p) = e' by omega, h4] at hm
  have : nx_q 3 = 1 := rfl
  omega
theorem pi_vs_val {x : Int32} {a : Nat} : ∀ m i S, S.1 51 = nI (a + i) → a + i + m < 2 ^ 31 → (pi_vs x m i S).1 51 = nI (a + i + m) ∧ (∀ j, i ≤ j → j < i + m → (pi_vs x m i S).2 63 (a + j) = x ∧ (pi_vs x m i S).2 64 (a + j) = nI j) ∧ (∀ q j, q = 63 ∨ q = 64 → j < a + i → (pi_vs x m i S).2 q j = S.2 q j) ∧ (∀ q, q ≠ 51 → (pi_vs x m i S).1 q = S.1 q) ∧ ∀ q, q ≠ 63 → q ≠ 64 → (pi_vs x m i S).2 q = S.2 q := by
  intro m
  induction m with
  | zero => intro i S h _; exact ⟨h, fun j a b => by omega, fun _ _ _ _ => rfl, fun _ _ => rfl, fun _ _ _ => rfl⟩
  | succ m ih =>
    intro i S h hb
    have ea : jg_n (S.1 51) = a + i := by rw [h, jg_n, nI_clamp (by omega)]
    have e51 : (pi_v S x i).1 51 = nI (a + (i + 1)) := by
      unfold pi_v
      rw [ml_sa_f, ml_sf_f, if_pos rfl, h, nI_1]
      rfl
    have e63 : ∀ j, (pi_v S x i).2 63 j = if j = a + i then x else S.2 63 j := fun j => by
      unfold pi_v
      rw [ml_sa_a, if_neg (by omega), ml_sf_a, ml_sa_a, if_pos rfl, ea]
    have e64 : ∀ j, (pi_v S x i).2 64 j = if j = a + i then nI i else S.2 64 j := fun j => by
      unfold pi_v
      rw [ml_sa_a, if_pos rfl, ml_sf_a, ml_sa_a, if_neg (show ¬ (64 = 63) by omega), ea]
    have ef : ∀ q, q ≠ 51 → (pi_v S x i).1 q = S.1 q := fun q hq => by
      unfold pi_v
      rw [ml_sa_f, ml_sf_f, if_neg hq]
      rfl
    have eo : ∀ q, q ≠ 63 → q ≠ 64 → (pi_v S x i).2 q = S.2 q := fun q q1 q2 => by
      unfold pi_v
      funext j
      rw [ml_sa_a, if_neg q2, ml_sf_a, ml_sa_a, if_neg q1]
    obtain ⟨g1, g2, g3, g4, g5⟩ := ih (i + 1) (pi_v S x i) e51 (by omega)
    have eS : pi_vs x (m + 1) i S = pi_vs x m (i + 1) (pi_v S x i) := rfl
    rw [eS]
    refine ⟨by rw [g1]; congr 1; omega, fun j a1 b1 => ?_, fun q j hq hj => ?_, fun q hq => by rw [g4 q hq, ef q hq], fun q q1 q2 => by rw [g5 q q1 q2, eo q q1 q2]⟩
    · rcases Nat.lt_or_ge i j with u | u
      · exact g2 j u (by omega)
      · have : j = i := by omega
        subst this
        rw [g3 63 _ (by omega) (by omega), g3 64 _ (by omega) (by omega), e63, e64, if_pos rfl, if_pos rfl]
        exact ⟨rfl, rfl⟩
    · rw [g3 q j hq (by omega)]
      rcases hq with rfl | rfl
      · rw [e63, if_neg (by omega)]
      · rw [e64, if_neg (by omega)]
theorem pi_en_val {S : MS} {n x c s a : Nat} {out call : Int32} (hc : pi_c S x c s a) (hx : x < 2 ^ 31) : (pi_en S n out call).1 50 = nI (x + 1) ∧ (pi_en S n out call).1 54 = nI c + S.2 16 n ∧ (pi_en S n out call).1 52 = nI s + S.2 17 n ∧ (pi_en S n out call).1 51 = nI a ∧
    (pi_en S n out call).2 56 x = nI n ∧ (pi_en S n out call).2 57 x = out ∧ (pi_en S n out call).2 58 x = call ∧ (pi_en S n out call).2 59 x = nI a ∧ (pi_en S n out call).2 60 x = nI s ∧ (pi_en S n out call).2 61 x = nI c ∧ (∀ q j, j ≠ x → (pi_en S n out call).2 q j = S.2 q j) ∧ ∀ q, ¬ (56 ≤ q ∧ q ≤ 61) → (pi_en S n out call).2 q = S.2 q := by
  obtain ⟨c1, c2, c3, c4⟩ := hc
  have ex : jg_n (S.1 50) = x := by rw [c1, jg_n, nI_clamp hx]
  have e2 : ∀ q j, (pi_en S n out call).2 q j = if q = 61 ∧ j = x then S.1 54 else if q = 60 ∧ j = x then S.1 52 else if q = 59 ∧ j = x then S.1 51 else if q = 58 ∧ j = x then call else if q = 57 ∧ j = x then out else if q = 56 ∧ j = x then nI n else S.2 q j := fun q j => by
    unfold pi_en pi_e3 pi_e2 pi_e1
    rw [ex]
    by_cases hj : j = x
    · simp [ml_sf_a, ml_sa_a, ml_sa_f, ml_sf_f, hj]
    · simp [ml_sf_a, ml_sa_a, ml_sa_f, ml_sf_f, hj]
  refine ⟨?_, ?_, ?_, ?_, ?_, ?_, ?_, ?_, ?_, ?_, fun q j hj => ?_, fun q hq => ?_⟩
  · unfold pi_en pi_e3 pi_e2 pi_e1
    simp [ml_sf_f, ml_sa_f, ml_sf_a, ml_sa_a, c1, nI_1]
  · unfold pi_en pi_e3 pi_e2 pi_e1
    simp [ml_sf_f, ml_sa_f, ml_sf_a, ml_sa_a, c2]
  · unfold pi_en pi_e3 pi_e2 pi_e1
    simp [ml_sf_f, ml_sa_f, ml_sf_a, ml_sa_a, c3]
  · unfold pi_en pi_e3 pi_e2 pi_e1
    simp [ml_sf_f, ml_sa_f, ml_sf_a, ml_sa_a, c4]
  · rw [e2, if_neg (by omega), if_neg (by omega), if_neg (by omega), if_neg (by omega), if_neg (by omega), if_pos ⟨rfl, rfl⟩]
  · rw [e2, if_neg (by omega), if_neg (by omega), if_neg (by omega), if_neg (by omega), if_pos ⟨rfl, rfl⟩]
  · rw [e2, if_neg (by omega), if_neg (by omega), if_neg (by omega), if_pos ⟨rfl, rfl⟩]
  · rw [e2, if_neg (by omega), if_neg (by omega), if_pos ⟨rfl, rfl⟩, c4]
  · rw [e2, if_neg (by omega), if_pos ⟨rfl, rfl⟩, c3]
  · rw [e2, if_pos ⟨rfl, rfl⟩, c2]
  · rw [e2, if_neg (by omega), if_neg (by omega), if_neg (by omega), if_neg (by omega), if_neg (by omega), if_neg (by omega)]
  · funext j
    rw [e2, if_neg (by omega), if_neg (by omega), if_neg (by omega), if_neg (by omega), if_neg (by omega), if_neg (by omega)]
def one1 : Nat → Nat := fun _ => 1
/-- all that putIn leaves -/
def pi_G (S0 S S' : MS) (f n x c s a : Nat) (out call : Int32) : Prop := ∃ B M C : Nat → Nat, pi_same S0 S' ∧ pi_c S' (x + ts one1 S0 f n) (c + ts (kcn S0) S0 f n) (s + ts (stn S0) S0 f n) (a + ts (vcn S0) S0 f n) ∧ a + ts (vcn S0) S0 f n ≤ 6000 ∧ pr_f S S' x c a ∧
  pr_R S0 S' x (x + ts one1 S0 f n) B M C ∧ (B x = a ∧ B (x + ts one1 S0 f n) = a + ts (vcn S0) S0 f n ∧ M x = s ∧ M (x + ts one1 S0 f n) = s + ts (stn S0) S0 f n ∧ C x = c ∧ C (x + ts one1 S0 f n) = c + ts (kcn S0) S0 f n) ∧
  pr_Q S0 S' x (x + ts one1 S0 f n) C ∧ pr_U S0 S' x (x + ts one1 S0 f n) ∧ S'.2 56 x = nI n ∧ S'.2 57 x = out ∧ S'.2 58 x = call
