/-! THE COMPONENT: an Instance's constructor -/
set_option maxRecDepth 100000
/-- how many places the first j memories of a list take -/
def sM (S : MS) (l : List Nat) (j : Nat) : Nat := ((l.take j).map (fun x => nx_s (S.2 32 x))).sum
theorem sM_s {S : MS} {l : List Nat} {i : Nat} (h : i < l.length) : sM S l (i + 1) = sM S l i + nx_s (S.2 32 (l.getD i 0)) := by
  unfold sM
  rw [List.take_succ, List.map_append, List.sum_append, List.getElem?_eq_getElem h, ls_get h]
  simp
section
variable {w : WD} {d : Nat} {q : PZ} {S : MS} {X : Nat → Nat} {G G' : GH} {x t now : Nat}
theorem places_C {y : Nat} {s : Int32} (hk : hp_kd G y = xk s) (hs : isM s) (h5 : s = 5 → hp_i G y 5 = 0) (h6 : s = 6 → hp_i G y 5 = 1) : wk_C w (vt_places (hp_kd G y)) d 0 [vR (some y)] G (fun v G' => v = some (vI (nI (nx_s s))) ∧ G' = G) (fun _ _ _ => False) := by
  rcases hs with rfl | rfl | rfl | rfl
  · rw [show hp_kd G y = 18 from hk, vt_places_18]
    refine wk_C_of (by decide) rfl (Nat.le_of_ble_eq_true rfl) ?_
    exact blX16_places_0 ⟨rfl, rfl⟩
  · have k : hp_kd G y = 17 := hk
    rw [k, vt_places_17]
    refine wk_C_of (by decide) rfl (Nat.le_of_ble_eq_true rfl) ?_
    refine blX21_places_0 k (fun _ => blX21_places_11 (blX21_places_12 ⟨rfl, rfl⟩)) (fun u => absurd (h5 rfl) u)
  · have k : hp_kd G y = 17 := hk
    rw [k, vt_places_17]
    refine wk_C_of (by decide) rfl (Nat.le_of_ble_eq_true rfl) ?_
    refine blX21_places_0 k (fun u => absurd u (by rw [h6 rfl]; decide)) (fun _ => blX21_places_7 (blX21_places_12 ⟨rfl, rfl⟩))
  · rw [show hp_kd G y = 20 from hk, vt_places_20]
    refine wk_C_of (by decide) rfl (Nat.le_of_ble_eq_true rfl) ?_
    exact blX17_places_0 ⟨rfl, rfl⟩
/-- a new instance's and the clock Now's cells aren't those of a text -/
theorem in_fzc {y : Nat} (kx : hp_kd G x = 11) (kn : hp_kd G now = 10) (h : y = x ∨ y = now) : ¬ fzc G y := by
  have : hp_kd G y = 11 ∨ hp_kd G y = 10 := h.imp (fun u => by rw [u]; exact kx) (fun u => by rw [u]; exact kn)
  rintro (u | ⟨u, -⟩ | ⟨u, -⟩)
  · unfold fzk at u; omega
  · omega
  · omega
/-- what the constructor leaves -/
def inP (w : WD) (S : MS) (G : GH) (x t now b0 m0 av : Nat) (out call : Option Nat) (lst : List Nat) (v : Option WV) (G' : GH) : Prop := v = none ∧ (hp_r G' x 0 = some t ∧ hp_r G' x 1 = out ∧ hp_r G' x 2 = call ∧ hp_r G' x 3 = some now ∧ hp_i G' x 4 = nI b0 ∧ hp_i G' x 5 = nI m0) ∧ (∃ L, hp_r G' x 7 = some L ∧ hp_kd G L = 0 ∧ ow G' L x ∧ al w G' L 0 0 (fun _ => none)) ∧
  (∃ m, hp_r G' x 6 = some m ∧ hp_kd G m = 0 ∧ ow G' m x ∧ hp_A w m ∧ hp_kd G' m = 28 ∧ hp_ln G' m = lst.length ∧ ∀ j, j < lst.length → hp_i G' m j = nI (m0 + sM S lst j)) ∧ (hp_i G' now 4 = nI (b0 + av) ∧ hp_i G' now 5 = nI (m0 + sM S lst lst.length) ∧ ∀ k, k ≠ 4 → k ≠ 5 → hp_i G' now k = hp_i G now k) ∧ cf (fun y => y = x ∨ y = now) G G'
theorem X22_init_L {D B cs ss b0 m0 av m L r : Nat} {PX : String → Nat → GH → Prop} {out call : Option Nat} {lst : List Nat} (hD : 4 ≤ D) (kx : hp_kd G x = 11) (kn : hp_kd G now = 10) (hnA : hp_A q.1.1 now) (kt : hp_kd G t = 8) (hm : lz q G t 5 lst.length (fun i => some (X (lst.getD i 0)))) (hb : lst.length < 2 ^ 24) (hX : ∀ e ∈ lst, isM (S.2 32 e) ∧ hp_kd G (X e) = xk (S.2 32 e) ∧ (S.2 32 e = 5 → hp_i G (X e) 5 = 0) ∧ (S.2 32 e = 6 → hp_i G (X e) 5 = 1)) (km0 : hp_kd G m = 0) (hmA : hp_A q.1.1 m) (kL0 : hp_kd G L = 0) (hLm : L ≠ m) :
    ∀ k i G1, i + k = lst.length → cf (fun y => y = x ∨ y = now) G G1 → (hp_r G1 x 0 = some t ∧ hp_r G1 x 1 = out ∧ hp_r G1 x 2 = call ∧ hp_r G1 x 3 = some now ∧ hp_i G1 x 4 = nI b0 ∧ hp_i G1 x 5 = nI m0) → (hp_r G1 x 7 = some L ∧ ow G1 L x ∧ al q.1.1 G1 L 0 0 (fun _ => none)) → (hp_r G1 x 6 = some m ∧ ow G1 m x ∧ hp_kd G1 m = 28 ∧ hp_ln G1 m = lst.length ∧ ∀ j, j < i → hp_i G1 m j = nI (m0 + sM S lst j)) → (hp_i G1 now 4 = nI (b0 + av) ∧ hp_i G1 now 5 = nI (m0 + sM S lst i) ∧ ∀ k, k ≠ 4 → k ≠ 5 → hp_i G1 now k = hp_i G now k) →
      wk_V q.1.1 mX22_init (D, B, inP q.1.1 S G x t now b0 m0 av out call lst, PX, cs, ss) 87 [(0, vR (some x)), (1, vR (some t)), (4, vR (some now)), (5, vI (nI i))] [] G1 r := by
  have hxn : x ≠ now := fun u => by rw [u, kn] at kx; cases kx
  intro k
  induction k with
  | zero =>
    intro i G1 hi f1 h1 h7 h6 h5
    have ei : i = lst.length := by omega
    subst ei
    refine blX22_init_87 (f1.k kx (by decide)) h6.1 (by rw [h6.2.2.1]; decide) (fun _ => ?_) (fun u => absurd (by rw [h6.2.2.2.1]; exact (nI_leI (by omega) (by omega)).2 (Nat.le_refl _)) u)
    exact blX22_init_142 ⟨rfl, h1, ⟨L, h7.1, kL0, h7.2⟩, ⟨m, h6.1, km0, h6.2.1, hmA, h6.2.2.1, h6.2.2.2.1, h6.2.2.2.2⟩, h5, f1⟩
  | succ k ih =>
    intro i G1 hi f1 h1 h7 h6 h5
    have hlt : i < lst.length := by omega
    have kx1 := f1.k kx (by decide)
    have kn1 := f1.k kn (by decide)
    have kt1 := f1.k kt (by decide)
    have hmx : m ≠ x := fun u => by rw [u, kx] at km0; cases km0
    have hmn : m ≠ now := fun u => by rw [u, kn] at km0; cases km0
    refine blX22_init_87 kx1 h6.1 (by rw [h6.2.2.1]; decide) (fun u => absurd ((nI_leI (by omega) (by omega)).1 (by rw [h6.2.2.2.1] at u; exact u)) (by omega)) (fun _ => ?_)
    have f2 : cf (fun y => y = x ∨ y = now) G (hp_sI G1 m (nI i).toNatClampNeg (hp_i G1 now 5)) := f1.sI (Or.inr km0)
    have ci : (nI i).toNatClampNeg = i := nI_clamp (by omega)
    obtain ⟨Lm, cm, hm1, hm2, hm3⟩ := hm.fr f2 (Or.inl (by rw [kt]; exact ⟨by decide, by decide⟩)) (fun y _ u => in_fzc kx kn u)
    have he := hX _ (getD_mem hlt)
    have ke : hp_kd G (X (lst.getD i 0)) ≠ 0 := by rw [he.2.1]; have := xk_r (S.2 32 (lst.getD i 0)); omega
    have ne : ¬ (X (lst.getD i 0) = x ∨ X (lst.getD i 0) = now) := by
      have := xk_r (S.2 32 (lst.getD i 0))
      rintro (u | u)
      · rw [u, kx] at he; omega
      · rw [u, kn] at he; omega
    refine blX22_init_97 kx1 rfl kn1 h6.1 (by rw [h6.2.2.2.1]; exact vp_in_nI hlt (by omega)) hmA h6.2.2.1 rfl kt1 hm1 hm3.1.1 (J5_get_C (d := 2) hm3 hlt (Nat.le_refl 2)) (by show 2 + 1 ≤ D; omega) (Nat.zero_le _) ?_ (fun _ _ _ u => absurd u id)
    rintro v G2 ⟨rfl, rfl⟩
    have en5 : hp_i (hp_sI G1 m (nI i).toNatClampNeg (hp_i G1 now 5)) now 5 = nI (m0 + sM S lst i) := by rw [hp_i_sI, if_neg (Ne.symm hmn)]; exact h5.2.1
    have km : hp_kd G (X (lst.getD i 0)) = 17 ∨ hp_kd G (X (lst.getD i 0)) = 18 ∨ hp_kd G (X (lst.getD i 0)) = 20 := by
      rw [he.2.1]
      rcases he.1 with u | u | u | u <;> rw [u] <;> decide
    have ke2 := f2.kd ke
    have ie2 := f2.i ke ne
    refine vkX22_init_124 (o2 := X (lst.getD i 0)) (d' := 0) (b' := 0) (fun a ha => ?_) rfl (by rw [ke2]; exact km) (by rw [ke2]; exact ke2 ▸ places_C (G := hp_sI G1 m (nI i).toNatClampNeg (hp_i G1 now 5)) (by rw [ke2]; exact he.2.1) he.1 (fun u => by rw [ie2]; exact he.2.2.1 u) (fun u => by rw [ie2]; exact he.2.2.2 u)) (by show 0 + 1 ≤ D; omega) (Nat.zero_le _) ?_ (fun _ _ _ u => absurd u id)
    · rw [← Option.some.inj ha, ke2]
      rcases km with u | u | u <;> rw [u] <;> exact ⟨by decide, by decide, by decide⟩
    rintro v G2 ⟨rfl, rfl⟩
    refine blX22_init_132 rfl (by show hp_kd G1 now = 10; exact kn1) hnA ?_
    rw [en5, ci, nI_add, h5.2.1, nI_1]
    have hst : m0 + sM S lst i + nx_s (S.2 32 (lst.getD i 0)) = m0 + sM S lst (i + 1) := by rw [sM_s hlt]; omega
    rw [hst]
    have e1 : ∀ y, y ≠ m → y ≠ now → ∀ j, hp_i (hp_sI (hp_sI G1 m i (nI (m0 + sM S lst i))) now 5 (nI (m0 + sM S lst (i + 1)))) y j = hp_i G1 y j := fun y y1 y2 j => by rw [hp_i_sI, if_neg y2, hp_i_sI, if_neg y1]
    refine ih (i + 1) _ (by omega) ((f1.sI (Or.inr km0)).sI (Or.inl (Or.inr rfl))) ⟨h1.1, h1.2.1, h1.2.2.1, h1.2.2.2.1, ?_, ?_⟩ ⟨h7.1, h7.2.1, ?_⟩ ⟨h6.1, h6.2.1, h6.2.2.1, h6.2.2.2.1, fun j hj => ?_⟩ ⟨?_, ?_, fun k k1 k2 => ?_⟩
    · rw [e1 x (Ne.symm hmx) hxn]; exact h1.2.2.2.2.1
    · rw [e1 x (Ne.symm hmx) hxn]; exact h1.2.2.2.2.2
    · exact h7.2.2.fr (own := fun y => y = m ∨ y = now) ((cf.rf.sI (Or.inl (Or.inl rfl))).sI (Or.inl (Or.inr rfl))) (fun u => u.elim (fun u => hLm u) (fun u => by have := h7.2.2.1.1; rw [u, kn1] at this; cases this)) (fun y _ hk u => u.elim (fun u => by rw [u, h6.2.2.1] at hk; cases hk) (fun u => by rw [u, kn1] at hk; cases hk))
    · rw [hp_i_sI, if_neg hmn, hp_i_sI, if_pos rfl]
      by_cases u : j = i
      · rw [if_pos u, u]
      · rw [if_neg u]; exact h6.2.2.2.2 j (by omega)
    · rw [hp_i_sI, if_pos rfl, if_neg (by decide), hp_i_sI, if_neg (Ne.symm hmn)]; exact h5.1
    · rw [hp_i_sI, if_pos rfl, if_pos rfl]
    · rw [hp_i_sI, if_pos rfl, if_neg k2, hp_i_sI, if_neg (Ne.symm hmn)]; exact h5.2.2 k k1 k2
end
