/-! THE PARSER's STEPS on the reference -/
set_option maxRecDepth 100000
theorem ml_C.mono {z : MZ} {M : MI} {d b : Nat} {As : List WV} {σ : MS} {P P' : Option WV → MS → GH → Prop} {PX PX' : Int32 → Int32 → MS → Prop} (h : ml_C z M d b As σ P PX) (hP : ∀ v σ' G, P v σ' G → P' v σ' G) (hX : ∀ kd pl σ', PX kd pl σ' → PX' kd pl σ') : ml_C z M d b As σ P' PX' :=
  fun G h1 h2 => (h G h1 h2).mono (fun _ _ ⟨σ', a, b, c⟩ => ⟨σ', a, b, hP _ _ _ c⟩) (fun _ _ _ ⟨a, b, σ', c, d, e⟩ => ⟨a, b, σ', c, d, hX _ _ _ e⟩)
theorem ml_krv {z : MZ} {M : MI} {jm : MJ} {pc r : Nat} {lv : List (Nat × WV)} {st : List WV} {Q : MS → Prop} {v0 : WV} (k : ∀ σ', Q σ' → ml_V z M jm pc lv (v0 :: st) σ' (fun _ => True) r) : ∀ v σ', ml_V z M jm pc lv (v.toList ++ st) σ' (fun _ => v = some v0 ∧ Q σ') r := fun v σ' G g1 g2 g3 => by
  obtain ⟨rfl, h⟩ := g3
  exact k σ' h G g1 g2 trivial
theorem ml_kr0 {z : MZ} {M : MI} {jm : MJ} {pc r : Nat} {lv : List (Nat × WV)} {st : List WV} {Q : MS → Prop} (k : ∀ σ', Q σ' → ml_V z M jm pc lv st σ' (fun _ => True) r) : ∀ v σ', ml_V z M jm pc lv (v.toList ++ st) σ' (fun _ => v = none ∧ Q σ') r := fun v σ' G g1 g2 g3 => by
  obtain ⟨rfl, h⟩ := g3
  exact k σ' h G g1 g2 trivial
/-- the reference's lexer stands at c, the rest is S -/
def ps (n c : Nat) (S σ : MS) : Prop := lx_I n c σ ∧ lx_nz σ = S
theorem ps.s2 {n c : Nat} {S σ : MS} (h : ps n c S σ) : σ.2 = S.2 := by rw [← h.2]; rfl
theorem ps.s1 {n c : Nat} {S σ : MS} (h : ps n c S σ) (k : Nat) (hk : ¬ (5 ≤ k ∧ k ≤ 9)) : σ.1 k = S.1 k := by
  rw [← h.2]
  show σ.1 k = if 5 ≤ k ∧ k ≤ 9 then 0 else σ.1 k
  rw [if_neg hk]
theorem lx_I.cg {n c : Nat} {σ σ' : MS} (h : lx_I n c σ) (h1 : ∀ k, k ≤ 9 → σ'.1 k = σ.1 k) (h2 : σ'.2 0 = σ.2 0) : lx_I n c σ' := by
  obtain ⟨a, b, q⟩ := h
  refine ⟨a, by rw [h1 1 (by omega)]; exact b, ?_⟩
  rcases q with ⟨q1, p, q2, q3, q4⟩ | ⟨q1, q2, q3, q4, q5, q6⟩
  · exact Or.inl ⟨by rw [h1 9 (by omega)]; exact q1, p, q2, by rw [h1 5 (by omega)]; exact q3, by rw [h2]; exact q4⟩
  · exact Or.inr ⟨q1, by rw [h1 5 (by omega)]; exact q2, by rw [h1 9 (by omega)]; exact q3, by rw [h1 7 (by omega)]; exact q4, by rw [h1 8 (by omega), h2]; exact q5, by rw [h1 6 (by omega), h2]; exact q6⟩
theorem lx_S.cg {n c : Nat} {σ σ' : MS} (h : lx_S n c σ) (h1 : ∀ k, k ≤ 9 → σ'.1 k = σ.1 k) (h2 : σ'.2 0 = σ.2 0) : lx_S n c σ' := by
  obtain ⟨q1, q2, q3, q4, q5, q6⟩ := h
  exact ⟨q1, by rw [h1 5 (by omega)]; exact q2, by rw [h1 9 (by omega)]; exact q3, by rw [h1 7 (by omega)]; exact q4, by rw [h1 8 (by omega), h2]; exact q5, by rw [h1 6 (by omega), h2]; exact q6⟩
section
variable {z : MZ} {d n c : Nat} {T : Nat → Int32} {S σ : MS}
theorem ps_peek (h : ps n c S σ) (hT : S.2 0 = T) (hd : 2 ≤ d) : ml_C z mX6_peek d 0 [vR (some z.2.1)] σ (fun v σ' _ => v = some (vI (lx_kind T n c)) ∧ ps n c S σ' ∧ lx_S n c σ') (fun _ _ _ => False) :=
  (X6_peek_C h.1 hd).mono (fun v σ' _ ⟨a, b, e⟩ => ⟨by rw [a, h.s2, hT], ⟨h.1.S b e, b.trans h.2⟩, e⟩) (fun _ _ _ q => q)
theorem ps_is {tx : String} (h : ps n c S σ) (hT : S.2 0 = T) (hw : ml_ws z) (ht : tx ∈ lx_words) (hd : 4 ≤ d) : ml_C z mX6_is d 0 [vR (some z.2.1), vR (some (hp_sa z.1 tx))] σ (fun v σ' _ => v = some (vI (if lx_isW T n c tx then 1 else 0)) ∧ ps n c S σ' ∧ lx_S n c σ') (fun _ _ _ => False) :=
  (X6_isW_C h.1 hw ht hd).mono (fun v σ' _ ⟨a, b, e⟩ => ⟨by rw [a, h.s2, hT], ⟨h.1.S b e, b.trans h.2⟩, e⟩) (fun _ _ _ q => q)
theorem ps_name (h : ps n c S σ) (hT : S.2 0 = T) (hw : ml_ws z) (hd : 6 ≤ d) : ml_C z mX6_nameHere d 0 [vR (some z.2.1)] σ (fun v σ' _ => v = some (vI (if lx_name T n c then 1 else 0)) ∧ ps n c S σ' ∧ lx_S n c σ') (fun _ _ _ => False) :=
  (X6_nameHere_C h.1 hw hd).mono (fun v σ' _ ⟨a, b, e⟩ => ⟨by rw [a, h.s2, hT], ⟨h.1.S b e, b.trans h.2⟩, e⟩) (fun _ _ _ q => q)
theorem ps_take (h : ps n c S σ) (hT : S.2 0 = T) (hd : 3 ≤ d) : ml_C z mX6_take d 0 [vR (some z.2.1)] σ (fun v σ' _ => v = none ∧ ps n (lx_next T n c) S σ') (fun _ _ _ => False) :=
  (X6_take_C h.1 hd).mono (fun v σ' _ ⟨a, b, e, f⟩ => ⟨a, by
    have := h.1.next b e f
    rw [h.s2, hT] at this
    exact ⟨this, b.trans h.2⟩⟩) (fun _ _ _ q => q)
theorem ps_must {x : Int32} (h : ps n c S σ) (hT : S.2 0 = T) (hd : 6 ≤ d) : ml_C z mX6_must d 1 [vR (some z.2.1), vI x] σ (fun v σ' _ => v = none ∧ lx_kind T n c = x ∧ ps n (lx_next T n c) S σ') (fun kd pl σ' => lx_kind T n c ≠ x ∧ kd = 1 ∧ pl = nI c ∧ lx_nz σ' = S) :=
  (X6_must_C h.1 hd).mono (fun v σ' _ ⟨a, b, e, f⟩ => by rw [h.s2, hT] at b f; exact ⟨a, b, f, e.trans h.2⟩) (fun _ _ σ' ⟨a, b, e, f⟩ => by rw [h.s2, hT] at a; exact ⟨a, b, e, f.trans h.2⟩)
theorem ps_mustBe {tx : String} (h : ps n c S σ) (hT : S.2 0 = T) (hw : ml_ws z) (ht : tx ∈ lx_words) (hd : 6 ≤ d) : ml_C z mX6_mustBe d 1 [vR (some z.2.1), vR (some (hp_sa z.1 tx))] σ (fun v σ' _ => v = none ∧ lx_isW T n c tx ∧ ps n (lx_next T n c) S σ') (fun kd pl σ' => ¬ lx_isW T n c tx ∧ kd = 1 ∧ pl = nI c ∧ lx_nz σ' = S) :=
  (X6_mustBe_C h.1 (hw tx ht) hd).mono (fun v σ' _ ⟨a, b, e, f⟩ => by rw [h.s2, hT] at b f; exact ⟨a, b, f, e.trans h.2⟩) (fun _ _ σ' ⟨a, b, e, f⟩ => by rw [h.s2, hT] at a; exact ⟨a, b, e, f.trans h.2⟩)
theorem ps_nest {k : Nat} (h : ps n c S σ) (hk : k ≤ 40) (hd : 5 ≤ d) : ml_C z mX6_nest d 1 [vR (some z.2.1), vI (nI k)] σ (fun v σ' _ => v = some (vI (nI (k + 1))) ∧ k < 40 ∧ ps n c S σ') (fun kd pl σ' => k = 40 ∧ kd = 3 ∧ pl = nI c ∧ lx_nz σ' = S) :=
  (X6_nest_C h.1 hk hd).mono (fun v σ' _ ⟨a, b, e⟩ => by subst e; exact ⟨b, a, h⟩) (fun _ _ σ' ⟨a, b, e, f⟩ => ⟨a, b, e, f.trans h.2⟩)
end
/-- outside the parser nothing has changed -/
def md_px (S S' : MS) : Prop := ((∀ k, k < 5 ∨ 49 ≤ k → S'.1 k = S.1 k) ∧ S'.2 12 0 = S.2 12 0) ∧ ∀ k, k = 0 ∨ 49 ≤ k → S'.2 k = S.2 k
theorem md_px.rf {S : MS} : md_px S S := ⟨⟨fun _ _ => rfl, rfl⟩, fun _ _ => rfl⟩
theorem md_px.tr {S S1 S2 : MS} (h : md_px S S1) (h2 : md_px S1 S2) : md_px S S2 := ⟨⟨fun k hk => (h2.1.1 k hk).trans (h.1.1 k hk), h2.1.2.trans h.1.2⟩, fun k hk => (h2.2 k hk).trans (h.2 k hk)⟩
theorem pe_same.px {S S' : MS} (h : pe_same S S') : md_px S S' := ⟨⟨fun k hk => h.1 k (by omega), by rw [h.2 12 (by omega) (by omega) (by omega)]⟩, fun k hk => h.2 k (by omega) (by omega) (by omega)⟩
/-- a parse's end: as r says -/
def pq_N (n : Nat) (r : PE) (v : Option WV) (σ' : MS) : Prop := ∃ e c', r = .inr (e, c', lx_nz σ') ∧ v = some (vI (nI e)) ∧ lx_I n c' σ'
def pq_X (S : MS) (r : PE) (kd pl : Int32) (σ' : MS) : Prop := ∃ c', r = .inl (kd, c') ∧ pl = nI c' ∧ md_px S (lx_nz σ')
theorem pq_X.er {S S1 : MS} {r : PE} {k0 : Int32} {c : Nat} (hr : pr_er k0 c = some r) (hpx : md_px S S1) {kd pl : Int32} {σ' : MS} (h1 : kd = k0) (h2 : pl = nI c) (h3 : lx_nz σ' = S1) : pq_X S r kd pl σ' :=
  ⟨c, by rw [h1]; exact (Option.some.inj hr).symm, h2, by rw [h3]; exact hpx⟩
theorem pq_kr {z : MZ} {M : MI} {jm : MJ} {pc rr n : Nat} {lv : List (Nat × WV)} {st : List WV} {r1 : PE} (k : ∀ e c1 σ', r1 = .inr (e, c1, lx_nz σ') → ps n c1 (lx_nz σ') σ' → ml_V z M jm pc lv (vI (nI e) :: st) σ' (fun _ => True) rr) : ∀ v σ', ml_V z M jm pc lv (v.toList ++ st) σ' (fun _ => pq_N n r1 v σ') rr := fun v σ' G g1 g2 g3 => by
  obtain ⟨e, c', he, rfl, hI⟩ := g3
  exact k e c' σ' he ⟨hI, rfl⟩ G g1 g2 trivial
theorem pq_kx {S S1 : MS} {r r1 : PE} (hx : ∀ k, r1 = .inl k → r = .inl k) (hpx : md_px S S1) : ∀ kd pl σ', pq_X S1 r1 kd pl σ' → pq_X S r kd pl σ' := fun kd pl σ' ⟨c', h1, h2, h3⟩ => ⟨c', hx _ h1, h2, hpx.tr h3⟩
theorem pq_ret {n e c : Nat} {S σ : MS} {r : PE} (h : pr_ok e c S = some r) (hs : ps n c S σ) : pq_N n r (some (vI (nI e))) σ := ⟨e, c, by rw [hs.2]; exact (Option.some.inj h).symm, rfl, hs.1⟩
/-- what every parse asks of the state -/
def pq_pre (n c : Nat) (S : MS) : Prop := ∃ p, S.1 40 = nI p ∧ p ≤ c ∧ c ≤ n ∧ pe_V n S
theorem pc_cl_T {n : Nat} : pc_cl n (fun _ => True) := ⟨fun _ _ _ _ => trivial, fun _ _ _ _ _ _ _ _ _ _ _ _ _ _ _ _ _ _ _ _ => trivial, fun _ _ _ _ _ _ _ _ _ _ _ _ _ _ _ _ _ _ => trivial⟩
theorem pe_R.pq {n p c e c' : Nat} {S S' : MS} {lo : Nat} (h : pe_R n S lo p c e c' S') (hp : p ≤ c) (hV : pe_V n S) : pq_pre n c' S' := ⟨e + 1, h.2.1, by have := h.2.2.2.2.2.2.2.1; omega, h.2.2.2.2.2.2.1, hV.same h.1⟩
/-- the methods by the parsers' numbers -/
def pq_M : Nat → MI := fun m => match m with
  | 0 => mX6_expression
  | 1 => mX6_implied
  | 2 => mX6_either
  | 4 => mX6_both
  | 6 => mX6_compared
  | 7 => mX6_sum
  | 9 => mX6_product
  | 11 => mX6_unary
  | _ => mX6_atom
def pq_IH (z : MZ) (T : Nat → Int32) (n : Nat) (rec : PF) : Prop :=
  (∀ m d c S σ r D, m ∈ [0, 1, 2, 4, 6, 7, 9, 11, 13] → ps n c S σ → S.2 0 = T → pq_pre n c S → d ≤ 40 → rec m d 0 [] c S = some r → 20 * (41 - d) + 40 - m ≤ D → ml_C z (pq_M m) D 1 [vR (some z.2.1), vI (nI d)] σ (fun v σ' _ => pq_N n r v σ') (pq_X S r)) ∧
  (∀ k d c S σ r D, k < pr_N S → ps n c S σ → S.2 0 = T → pq_pre n c S → d ≤ 40 → rec 14 d k [] c S = some r → 20 * (41 - d) + 26 ≤ D → ml_C z mX6_call D 1 [vR (some z.2.1), vI (nI k), vI (nI d)] σ (fun v σ' _ => pq_N n r v σ') (pq_X S r)) ∧
  (∀ m a l c S r, m = 0 ∨ m = 1 ∨ m = 11 → rec m 41 a l c S = some r → r = .inl (3, c)) ∧ pp_IH n (fun _ => True) rec
/-- too deep -/
theorem pq_IH.nx {z : MZ} {T : Nat → Int32} {n m d a c : Nat} {l : List Nat} {rec : PF} {S S1 : MS} {r r1 : PE} (ih : pq_IH z T n rec) (h : rec m (d + 1) a l c S1 = some r1) (hm : m = 0 ∨ m = 1 ∨ m = 11) (hx : ∀ k, r1 = .inl k → r = .inl k) (hpx : md_px S S1) : ∀ kd pl σ', (d = 40 ∧ kd = 3 ∧ pl = nI c ∧ lx_nz σ' = S1) → pq_X S r kd pl σ' := by
  rintro kd pl σ' ⟨e1, e2, e3, e4⟩
  subst e1
  exact ⟨c, by rw [e2]; exact hx _ (ih.2.2.1 m a l c S1 r1 hm h), e3, by rw [e4]; exact hpx⟩
/-- what a part's parse leaves -/
theorem pq_IH.R {z : MZ} {T : Nat → Int32} {n m d a c : Nat} {l : List Nat} {rec : PF} {S S1 : MS} {r1 : PE} {e c1 : Nat} (ih : pq_IH z T n rec) (h : rec m d a l c S = some r1) (he : r1 = .inr (e, c1, S1)) (hm : ¬ (m = 3 ∨ m = 5 ∨ m = 8 ∨ m = 10 ∨ m = 12) ∧ m ≠ 15) (hp : pq_pre n c S) (ha : m = 14 → a < pr_N S) :
    ∃ p, S.1 40 = nI p ∧ p ≤ c ∧ pe_V n S ∧ pe_R n S p p c e c1 S1 := by
  subst he
  obtain ⟨p, h1, h2, h3, h4⟩ := hp
  exact ⟨p, h1, h2, h4, (ih.2.2.2.main h hm h1 h2 h3 h4 ha).1⟩
