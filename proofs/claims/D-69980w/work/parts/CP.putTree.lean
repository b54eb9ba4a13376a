/-! new nodes; putTreeVal -/
set_option maxRecDepth 100000
/-- q is a new node of the map a -/
def nN (G : GH) (q c a : Nat) (h : Int32) (key v nx : Option Nat) (G' : GH) : Prop := hp_kd G q = 0 ∧ cf (fun _ => False) G G' ∧ hp_kd G' q = c ∧ ow G' q a ∧ hp_i G' q 0 = h ∧ hp_r G' q 1 = key ∧ hp_r G' q 2 = v ∧ hp_r G' q 3 = nx ∧ (∀ k, 4 ≤ k → hp_r G' q k = none) ∧ ∀ x, x ≠ q → hp_kd G' x = hp_kd G x ∧ hp_i G' x = hp_i G x ∧ hp_r G' x = hp_r G x ∧ hp_l G' x = hp_l G x
section
variable {w : WD} {d : Nat} {G G' : GH} {a q x : Nat} {h : Int32} {key v nx : Option Nat}
theorem nN_of {c : Nat} (hq : hp_kd G q = 0) : nN G q c a h key v nx (hp_sL (hp_sR (hp_sR (hp_sR (hp_sI (hp_nw G q c 0) q 0 h) q 1 key) q 2 v) q 3 nx) q a 1) := by
  refine ⟨hq, ((((((cf.rf.nw hq).sI (Or.inr hq)).sR (Or.inr hq)).sR (Or.inr hq)).sR (Or.inr hq)).sL (Or.inr hq)), ?_, ow.set (fun y => ?_), ?_, ?_, ?_, ?_, fun k hk => ?_, fun x hx => ⟨?_, ?_, ?_, ?_⟩⟩
  · rw [hp_kd_sL, hp_kd_sR, hp_kd_sR, hp_kd_sR, hp_kd_sI, hp_kd_nw, if_pos rfl]
  · rw [hp_l_sR, hp_l_sR, hp_l_sR, hp_l_sI, hp_l_nw, if_pos rfl]
  · rw [hp_i_sL, hp_i_sR, hp_i_sR, hp_i_sR, hp_i_sI, if_pos rfl, if_pos rfl]
  · rw [hp_r_sL, hp_r_sR, if_pos rfl, if_neg (by decide), hp_r_sR, if_pos rfl, if_neg (by decide), hp_r_sR, if_pos rfl, if_pos rfl]
  · rw [hp_r_sL, hp_r_sR, if_pos rfl, if_neg (by decide), hp_r_sR, if_pos rfl, if_pos rfl]
  · rw [hp_r_sL, hp_r_sR, if_pos rfl, if_pos rfl]
  · rw [hp_r_sL, hp_r_sR, if_pos rfl, if_neg (by omega), hp_r_sR, if_pos rfl, if_neg (by omega), hp_r_sR, if_pos rfl, if_neg (by omega), hp_r_sI, hp_r_nw, if_pos rfl]
  · rw [hp_kd_sL, hp_kd_sR, hp_kd_sR, hp_kd_sR, hp_kd_sI, hp_kd_nw, if_neg hx]
  · funext k
    rw [hp_i_sL, hp_i_sR, hp_i_sR, hp_i_sR, hp_i_sI, if_neg hx, hp_i_nw, if_neg hx]
  · funext k
    rw [hp_r_sL, hp_r_sR, if_neg hx, hp_r_sR, if_neg hx, hp_r_sR, if_neg hx, hp_r_sI, hp_r_nw, if_neg hx]
  · funext k
    rw [hp_l_sL, if_neg hx, hp_l_sR, hp_l_sR, hp_l_sR, hp_l_sI, hp_l_nw, if_neg hx]
theorem J24_init_C (hk : 24 ≤ hp_kd G x ∧ hp_kd G x ≤ 25) (hA : hp_A w x) (hd : 1 ≤ d) : wk_C w mJ24_init d 0 [vR (some x), vI h, vR key, vR v, vR nx] G (fun u G' => u = none ∧ G' = hp_sR (hp_sR (hp_sR (hp_sI G x 0 h) x 1 key) x 2 v) x 3 nx) (fun _ _ _ => False) := by
  refine wk_C_of (by decide) rfl (by cases key <;> cases v <;> cases nx <;> exact Nat.le_of_ble_eq_true rfl) ?_
  exact blJ24_init_0 hd (blJ24_init_4 hk hA (blJ24_init_14 hk hA (blJ24_init_25 ⟨rfl, rfl⟩)))
theorem J26_init_C (hk : 24 ≤ hp_kd G x ∧ hp_kd G x ≤ 25) (hA : hp_A w x) (hd : 3 ≤ d) : wk_C w mJ26_init d 0 [vR (some x), vI h, vR key, vR v, vR nx] G (fun u G' => u = none ∧ G' = hp_sR (hp_sR (hp_sR (hp_sI G x 0 h) x 1 key) x 2 v) x 3 nx) (fun _ _ _ => False) := by
  refine wk_C_of (by decide) rfl (by cases key <;> cases v <;> cases nx <;> exact Nat.le_of_ble_eq_true rfl) ?_
  have h25 : wk_C w mJ25_init 2 0 [vR (some x), vI h, vR key, vR v, vR nx] G (fun u G' => u = none ∧ G' = hp_sR (hp_sR (hp_sR (hp_sI G x 0 h) x 1 key) x 2 v) x 3 nx) (fun _ _ _ => False) := by
    refine wk_C_of (by decide) rfl (by cases key <;> cases v <;> cases nx <;> exact Nat.le_of_ble_eq_true rfl) ?_
    refine blJ25_init_0 (J24_init_C (d := 1) hk hA (Nat.le_refl 1)) (Nat.le_refl 2) (Nat.zero_le _) ?_ (fun _ _ _ q => absurd q id)
    rintro u G1 ⟨rfl, rfl⟩
    exact blJ25_init_9 ⟨rfl, rfl⟩
  refine blJ26_init_0 h25 hd (Nat.zero_le _) ?_ (fun _ _ _ q => absurd q id)
  rintro u G1 ⟨rfl, rfl⟩
  exact blJ26_init_9 ⟨rfl, rfl⟩
def nn_P (w : WD) (G : GH) (c a : Nat) (h : Int32) (key v nx : Option Nat) (u : Option WV) (G' : GH) : Prop := ∃ q, u = some (vR (some q)) ∧ hp_A w q ∧ nN G q c a h key v nx G'
theorem J7_newNode_C (hd : 2 ≤ d) : wk_C w mJ7_newNode d 1 [vR (some a), vI h, vR key, vR v, vR nx] G (nn_P w G 24 a h key v nx) (fun _ _ _ => False) := by
  refine wk_C_of (by decide) rfl (by cases key <;> cases v <;> cases nx <;> exact Nat.le_of_ble_eq_true rfl) ?_
  refine wk_sub [(1, vI h), (2, vR key), (3, vR v), (4, vR nx)] ⟨rfl, rfl, rfl, rfl, trivial⟩ ?_
  refine blJ7_newNode_0 (Nat.le_refl 1) (fun q hq hA => ?_)
  have kq : hp_kd (hp_nw G q 24 0) q = 24 := by rw [hp_kd_nw, if_pos rfl]
  refine blJ7_newNode_3 rfl (J24_init_C (d := 1) (by rw [kq]; decide) hA (Nat.le_refl 1)) hd (Nat.zero_le _) ?_ (fun _ _ _ q => absurd q id)
  rintro u G1 ⟨rfl, rfl⟩
  exact wk_gl q a 1 (by rw [hp_kd_sR, hp_kd_sR, hp_kd_sR, hp_kd_sI, kq]; decide) (blJ7_newNode_12 ⟨q, rfl, hA, nN_of hq⟩)
theorem J7_newTreeNode_C (hd : 4 ≤ d) : wk_C w mJ7_newTreeNode d 1 [vR (some a), vI h, vR key, vR v, vR nx] G (nn_P w G 25 a h key v nx) (fun _ _ _ => False) := by
  refine wk_C_of (by decide) rfl (by cases key <;> cases v <;> cases nx <;> exact Nat.le_of_ble_eq_true rfl) ?_
  refine wk_sub [(1, vI h), (2, vR key), (3, vR v), (4, vR nx)] ⟨rfl, rfl, rfl, rfl, trivial⟩ ?_
  refine blJ7_newTreeNode_0 (Nat.le_refl 1) (fun q hq hA => ?_)
  have kq : hp_kd (hp_nw G q 25 0) q = 25 := by rw [hp_kd_nw, if_pos rfl]
  refine blJ7_newTreeNode_3 rfl (J26_init_C (d := 3) (by rw [kq]; decide) hA (Nat.le_refl 3)) hd (Nat.zero_le _) ?_ (fun _ _ _ q => absurd q id)
  rintro u G1 ⟨rfl, rfl⟩
  exact wk_gl q a 1 (by rw [hp_kd_sR, hp_kd_sR, hp_kd_sR, hp_kd_sI, kq]; decide) (blJ7_newTreeNode_12 ⟨q, rfl, hA, nN_of hq⟩)
theorem J7_replacementTreeNode_C {z : Nat} (hz : 24 ≤ hp_kd G z ∧ hp_kd G z ≤ 25) (hd : 4 ≤ d) : wk_C w mJ7_replacementTreeNode d 1 [vR (some a), vR (some z), vR nx] G (nn_P w G 25 a (hp_i G z 0) (hp_r G z 1) (hp_r G z 2) nx) (fun _ _ _ => False) := by
  refine wk_C_of (by decide) rfl (by cases nx <;> exact Nat.le_of_ble_eq_true rfl) ?_
  refine wk_sub [(1, vR (some z)), (2, vR nx)] ⟨rfl, rfl, trivial⟩ ?_
  refine blJ7_replacementTreeNode_0 (Nat.le_refl 1) (fun q hq hA => ?_)
  have kq : hp_kd (hp_nw G q 25 0) q = 25 := by rw [hp_kd_nw, if_pos rfl]
  have nz : z ≠ q := fun e => by rw [e, hq] at hz; omega
  refine blJ7_replacementTreeNode_3 rfl (by rw [hp_kd_nw, if_neg nz]; exact hz) rfl (J26_init_C (d := 3) (by rw [kq]; decide) hA (Nat.le_refl 3)) hd (Nat.zero_le _) ?_ (fun _ _ _ q => absurd q id)
  rintro u G1 ⟨rfl, rfl⟩
  rw [hp_i_nw, if_neg nz, hp_r_nw, if_neg nz, hp_r_nw, if_neg nz]
  exact wk_gl q a 1 (by rw [hp_kd_sR, hp_kd_sR, hp_kd_sR, hp_kd_sI, kq]; decide) (blJ7_replacementTreeNode_20 ⟨q, rfl, hA, nN_of hq⟩)
theorem J7_replacementNode_C {z : Nat} (hz : 24 ≤ hp_kd G z ∧ hp_kd G z ≤ 25) (hd : 2 ≤ d) : wk_C w mJ7_replacementNode d 1 [vR (some a), vR (some z), vR nx] G (nn_P w G 24 a (hp_i G z 0) (hp_r G z 1) (hp_r G z 2) nx) (fun _ _ _ => False) := by
  refine wk_C_of (by decide) rfl (by cases nx <;> exact Nat.le_of_ble_eq_true rfl) ?_
  refine wk_sub [(1, vR (some z)), (2, vR nx)] ⟨rfl, rfl, trivial⟩ ?_
  refine blJ7_replacementNode_0 (Nat.le_refl 1) (fun q hq hA => ?_)
  have kq : hp_kd (hp_nw G q 24 0) q = 24 := by rw [hp_kd_nw, if_pos rfl]
  have nz : z ≠ q := fun e => by rw [e, hq] at hz; omega
  refine blJ7_replacementNode_3 rfl (by rw [hp_kd_nw, if_neg nz]; exact hz) rfl (J24_init_C (d := 1) (by rw [kq]; decide) hA (Nat.le_refl 1)) hd (Nat.zero_le _) ?_ (fun _ _ _ q => absurd q id)
  rintro u G1 ⟨rfl, rfl⟩
  rw [hp_i_nw, if_neg nz, hp_r_nw, if_neg nz, hp_r_nw, if_neg nz]
  exact wk_gl q a 1 (by rw [hp_kd_sR, hp_kd_sR, hp_kd_sR, hp_kd_sI, kq]; decide) (blJ7_replacementNode_20 ⟨q, rfl, hA, nN_of hq⟩)
end
section
variable {w : WD} {d : Nat} {G G' : GH} {B : List Nat} {t i k : Nat} {Lf : Nat → List Nat} {Vf : Nat → Nat}
theorem tk.sR {G1 : GH} {x j : Nat} {u : Option Nat} (h : tk B t i G G1) (hx : x ∈ B) (hxt : x ≠ t) (hj : 3 ≤ j) : tk B t i G (hp_sR G1 x j u) := by
  refine ⟨h.1.sR (Or.inl (Or.inl hx)), fun y k hy h3 => ?_, fun j' hj' => ?_, h.2.2.2.1, h.2.2.2.2⟩
  · rw [hp_r_sR]
    by_cases e : y = x
    · rw [if_pos e, if_neg (by omega)]; exact h.2.1 y k hy h3
    · rw [if_neg e]; exact h.2.1 y k hy h3
  · rw [hp_r_sR, if_neg (Ne.symm hxt)]; exact h.2.2.1 j' hj'
/-- q is put behind p -/
theorem ins_list {l1 l2 : List Nat} {p q : Nat} {p0 : Option Nat} (nd : (l1 ++ p :: l2).Nodup) (hq : q ∉ l1 ++ p :: l2) (hc : hch G p0 (l1 ++ p :: l2)) (hv : hpv G none (l1 ++ p :: l2))
    (h3 : ∀ x, x ∈ l1 ++ p :: l2 → hp_r G' x 3 = if x = p then some q else hp_r G x 3) (q3 : hp_r G' q 3 = hp_r G p 3) (q7 : hp_r G' q 7 = some p)
    (h7 : ∀ x, x ∈ l1 ++ p :: l2 → hp_r G' x 7 = if hp_r G p 3 = some x then some q else hp_r G x 7) : hch G' p0 (l1 ++ p :: q :: l2) ∧ hpv G' none (l1 ++ p :: q :: l2) := by
  rw [← hseg_ch] at hc
  obtain ⟨m, c1, c2, c3⟩ := (hseg_app _ _ _ _).1 hc
  obtain ⟨v1, v2, v3⟩ := (hpv_app _ _ _).1 hv
  obtain ⟨n1, n2, n3⟩ := List.nodup_append.1 nd
  have n4 := List.nodup_cons.1 n2
  have pB : p ∈ l1 ++ p :: l2 := List.mem_append_right _ List.mem_cons_self
  have i1 : ∀ x ∈ l1, x ∈ l1 ++ p :: l2 := fun x hx => List.mem_append_left _ hx
  have i2 : ∀ x ∈ l2, x ∈ l1 ++ p :: l2 := fun x hx => List.mem_append_right _ (List.mem_cons_of_mem _ hx)
  have ne1 : ∀ x ∈ l1, x ≠ p := fun x hx => n3 x hx p List.mem_cons_self
  have ne2 : ∀ x ∈ l2, x ≠ p := fun x hx e => n4.1 (by rw [← e]; exact hx)
  have nm : ∀ x, (x ∈ l1 ∨ x = p) → hp_r G p 3 ≠ some x := fun x hx e => by
    cases l2 with
    | nil => have t : hp_r G p 3 = none := c3; rw [t] at e; cases e
    | cons y ys =>
      have t : hp_r G p 3 = some y := c3.1
      rw [t] at e
      have e' : y = x := Option.some.inj e
      rcases hx with u | u
      · exact n3 x u y (List.mem_cons_of_mem _ List.mem_cons_self) e'.symm
      · exact ne2 y List.mem_cons_self (e'.trans u)
  refine ⟨?_, ?_⟩
  · rw [← hseg_ch]
    refine (hseg_app _ _ _ _).2 ⟨m, hseg.fr _ _ _ (fun x hx => by rw [h3 x (i1 x hx), if_neg (ne1 x hx)]) c1, c2, by rw [h3 p pB, if_pos rfl], ?_⟩
    rw [q3]
    exact hseg.fr _ _ _ (fun x hx => by rw [h3 x (i2 x hx), if_neg (ne2 x hx)]) c3
  · refine (hpv_app _ _ _).2 ⟨hpv.fr7 _ _ (fun x hx => by rw [h7 x (i1 x hx), if_neg (nm x (Or.inl hx))]) v1, ?_, ?_, ?_⟩
    · rw [h7 p pB, if_neg (nm p (Or.inr rfl))]; exact v2
    · exact q7
    · cases l2 with
      | nil => exact trivial
      | cons y ys =>
        have t : hp_r G p 3 = some y := c3.1
        have n5 := List.nodup_cons.1 n4.2
        refine ⟨by rw [h7 y (i2 y List.mem_cons_self), if_pos t], hpv.fr7 _ _ (fun x hx => ?_) v3.2⟩
        rw [h7 x (i2 x (List.mem_cons_of_mem _ hx)), if_neg (fun e => n5.1 (by rw [t] at e; rw [Option.some.inj e]; exact hx))]
/-- the cells once q hangs below p -/
def pt_G (G : GH) (p q c : Nat) : GH := hp_sR (hp_sR (hp_sR (hp_sR G p c (some q)) p 3 (some q)) q 7 (some p)) q 4 (some p)
theorem pt_r {p q c : Nat} {x : Nat} (hx : x ≠ q) (k : Nat) : hp_r (pt_G G p q c) x k = if x = p ∧ (k = 3 ∨ k = c) then some q else hp_r G x k := by
  unfold pt_G
  rw [hp_r_sR, if_neg hx, hp_r_sR, if_neg hx, hp_r_sR, hp_r_sR]
  by_cases e : x = p
  · rw [if_pos e, if_pos e]
    by_cases e2 : k = 3
    · rw [if_pos e2, if_pos ⟨e, Or.inl e2⟩]
    · rw [if_neg e2]
      by_cases e3 : k = c
      · rw [if_pos e3, if_pos ⟨e, Or.inr e3⟩]
      · rw [if_neg e3, if_neg (fun u => u.2.elim e2 e3)]
  · rw [if_neg e, if_neg e, if_neg (fun u => e u.1)]
theorem pt_q {p q c : Nat} (h : q ≠ p) (k : Nat) : hp_r (pt_G G p q c) q k = if k = 4 ∨ k = 7 then some p else hp_r G q k := by
  unfold pt_G
  rw [hp_r_sR, if_pos rfl, hp_r_sR, if_pos rfl, hp_r_sR, if_neg h, hp_r_sR, if_neg h]
  by_cases e : k = 4
  · rw [if_pos e, if_pos (Or.inl e)]
  · rw [if_neg e]
    by_cases e2 : k = 7
    · rw [if_pos e2, if_pos (Or.inr e2)]
    · rw [if_neg e2, if_neg (fun u => u.elim e e2)]
/-- what putTreeVal leaves -/
def pt_P (w : WD) (G : GH) (a t i : Nat) (B : List Nat) (Lf : Nat → List Nat) (l : List Nat) (key v : Nat) (u : Option WV) (G' : GH) : Prop :=
  (∃ x, x ∈ B ∧ Lf x = l ∧ u = some (vR (some x)) ∧ G' = G) ∨ ((∀ x ∈ B, Lf x ≠ l) ∧ u = some (vR none) ∧ ∃ q G1 nx B', hp_A w q ∧ nN G q 25 a (hx l) (some key) (some v) nx G1 ∧ tk (q :: B) t i G1 G' ∧ (∀ x, x ∈ B' ↔ x ∈ q :: B) ∧ B'.Nodup ∧ hch G' (hp_r G' t i) B' ∧ tbn G' (fun x => if x = q then l else Lf x) B')
theorem nN.tr {q c a r : Nat} {h : Int32} {key v nx : Option Nat} {N : List Nat} {ps lo hi : Nat → Nat} (hn : nN G q c a h key v nx G') (hT : tr G N r ps lo hi) (hq : q ∉ N) : tr G' N r ps lo hi :=
  hT.fr4 (fun x hx => by
    obtain ⟨e1, e2, e3, e4⟩ := hn.2.2.2.2.2.2.2.2.2 x (fun e => hq (by rw [← e]; exact hx))
    exact ⟨e1, fun k _ => by rw [e3]⟩)
theorem J26_putTreeVal_C {a h0 key v : Nat} {l : List Nat} (ka : hp_kd G a = 23) (kt : hp_kd G t = 35) (tA : hp_A w t) (ln : hp_ln G t = 2 ^ k) (hk : k ≤ 16) (hN : ∀ x ∈ B, hn w G a x (Lf x) (Vf x) ∧ hix k (hx (Lf x)) = i) (h0B : ∃ xs, B = h0 :: xs) (hc : hch G (hp_r G t i) B) (htb : tbn G Lf B) (nd : B.Nodup) (hkey : st w G key l) (hl : hix k (hx l) = i) (hcmp : cmp_o w) (hd : 23 ≤ d) :
    wk_C w mJ26_putTreeVal d 1 [vR (some h0), vR (some a), vR (some t), vI (hx l), vR (some key), vR (some v)] G (pt_P w G a t i B Lf l key v) (fun _ _ _ => False) := by
  obtain ⟨r, xs, ps, lo, hi, eB, hv, hT, ho⟩ := htb
  obtain ⟨xs', e0⟩ := h0B
  have er : h0 = r := by rw [eB] at e0; exact (List.cons.inj e0).1.symm
  subst er
  have kk : ∀ x ∈ B, hp_kd G x = 25 := fun x hx => (hT.2 x hx).1
  have AB : ∀ x ∈ B, hp_A w x := fun x hx => (hN x hx).1.2.1
  have gB : ∀ x ∈ B, gw (Lf x) := fun x hx => by
    obtain ⟨-, -, -, -, ⟨key, -, h6⟩, -⟩ := (hN x hx).1
    exact h6.gw
  have gl := hkey.gw
  have tB : t ∉ B := fun u => by have := kk t u; rw [kt] at this; cases this
  refine wk_C_of (by decide) rfl (Nat.le_of_ble_eq_true rfl) ?_
  refine blJ26_putTreeVal_0 (kk h0 hT.1.1) (fun _ => ?_) (fun o e => by rw [hT.1.2.1] at e; cases e)
  refine blJ26_putTreeVal_20 (blJ26_putTreeVal_21 ?_)
  -- a leaf is to be hung up at p
  have hang : ∀ p (x10 : Int32), p ∈ B → wi Lf B ps lo hi l p → (∀ z ∈ B, Lf z ≠ l) → ((0 < x10 ∧ kl (Lf p) l ∧ hp_r G p 6 = none) ∨ (¬ 0 < x10 ∧ kl l (Lf p) ∧ hp_r G p 5 = none)) → wk_V w mJ26_putTreeVal (d, 1, pt_P w G a t i B Lf l key v, (fun _ _ _ => False), hp_cs G, hp_ss G) 221 [(1, vR (some a)), (2, vR (some t)), (3, vI (hx l)), (4, vR (some key)), (5, vR (some v)), (8, vR (some h0)), (10, vI x10), (13, vR (some p))] [] G 1 := by
    intro p x10 hp hwi hnew hside
    have kp := kk p hp
    refine blJ26_putTreeVal_221 rfl kp rfl ka (J7_newTreeNode_C (d := 4) (a := a) (h := hx l) (key := some key) (v := some v) (nx := hp_r G p 3) (Nat.le_refl 4)) (by show 4 + 1 ≤ d; omega) (Nat.le_refl 1) ?_ (fun _ _ _ q => absurd q id)
    rintro u G1 ⟨q, rfl, qA, hnN⟩
    obtain ⟨q0, f1, f2, f3, f4, f5, f6, f7, f8, f9⟩ := id hnN
    have qB : q ∉ B := fun u => by have := kk q u; rw [q0] at this; cases this
    have qt : q ≠ t := fun e => by rw [e, kt] at q0; cases q0
    have ne : ∀ x ∈ B, x ≠ q := fun x hx e => qB (by rw [← e]; exact hx)
    have npq := ne p hp
    have npt : p ≠ t := fun e => tB (by rw [← e]; exact hp)
    have kk1 : ∀ x ∈ B, hp_kd G1 x = 25 := fun x hx => by rw [(f9 x (ne x hx)).1]; exact kk x hx
    have r1 : ∀ x ∈ B, ∀ k, hp_r G1 x k = hp_r G x k := fun x hx k => by rw [(f9 x (ne x hx)).2.2.1]
    have hT1 := hnN.tr hT qB
    have ho1 : tro (fun x => if x = q then l else Lf x) B ps := fun x hx y hy => by
      dsimp only
      rw [if_neg (ne x hx), if_neg (ne y hy)]
      exact ho x hx y hy
    have hwi1 : wi (fun x => if x = q then l else Lf x) B ps lo hi l p := fun z hz => by
      dsimp only
      rw [if_neg (ne z hz)]
      exact hwi z hz
    have gB1 : ∀ x ∈ B, gw (if x = q then l else Lf x) := fun x hx => by rw [if_neg (ne x hx)]; exact gB x hx
    obtain ⟨l1, l2, eL⟩ := List.append_of_mem hp
    have t1 : hp_r G1 t = hp_r G t := (f9 t qt.symm).2.2.1
    have qm : q ∈ q :: B := List.mem_cons_self
    have pm : p ∈ q :: B := List.mem_cons_of_mem _ hp
    have hp3 : ∀ x, hp_r G p 3 = some x → x ∈ B ∧ x ≠ p := fun x hx => by
      have hc1 := hc
      rw [eL, ← hseg_ch] at hc1
      obtain ⟨m, c1, c2, c3⟩ := (hseg_app _ _ _ _).1 hc1
      have nd1 := nd
      rw [eL] at nd1
      have n4 := List.nodup_cons.1 (List.nodup_append.1 nd1).2.1
      cases l2 with
      | nil => have u : hp_r G p 3 = none := c3; rw [u] at hx; cases hx
      | cons y ys =>
        have u : hp_r G p 3 = some y := c3.1
        rw [u] at hx
        have e : y = x := Option.some.inj hx
        rw [← e, eL]
        exact ⟨List.mem_append_right _ (List.mem_cons_of_mem _ List.mem_cons_self), fun e2 => n4.1 (by rw [← e2]; exact List.mem_cons_self)⟩
    -- the end
    have last : ∀ G3 ps' lo' hi', tk (q :: B) t i G1 G3 → (∀ x, x ∈ B → hp_r G3 x 3 = if x = p then some q else hp_r G x 3) → hp_r G3 q 3 = hp_r G p 3 → hp_r G3 q 7 = some p → (∀ x, x ∈ B → hp_r G3 x 7 = if hp_r G p 3 = some x then some q else hp_r G x 7) → hp_r G3 t = hp_r G t → tr G3 (q :: B) h0 ps' lo' hi' → tro (fun x => if x = q then l else Lf x) (q :: B) ps' →
        wk_V w mJ26_putTreeVal (d, 1, pt_P w G a t i B Lf l key v, (fun _ _ _ => False), hp_cs G, hp_ss G) 298 [(2, vR (some t)), (8, vR (some h0)), (15, vR (some q))] [] G3 0 := by
      intro G3 ps' lo' hi' g3 h3 q3 q7 h7 ht hT3 ho3
      have AA : ∀ x ∈ q :: B, hp_A w x := fun x hx => (List.mem_cons.1 hx).elim (fun e => by rw [e]; exact qA) (AB x)
      refine blJ26_putTreeVal_298 (J26_balanceInsertion_C (d := 1) hT3 AA qm (Nat.le_refl 1)) (by show 1 + 1 ≤ d; omega) (Nat.zero_le _) ?_ (fun _ _ _ q => absurd q id)
      rintro u G4 ⟨r4, lo4, hi4, rfl, hT4, hrk4⟩
      have hc1 := hc
      have hv1 := hv
      have nd1 := nd
      rw [eL] at hc1 nd1
      rw [eL] at hv1
      have ht3 : hp_kd G3 t = 35 := by rw [g3.1.kd (by rw [(f9 t qt.symm).1, kt]; decide), (f9 t qt.symm).1]; exact kt
      have tqB : t ∉ q :: B := fun u => (List.mem_cons.1 u).elim (fun e => qt e.symm) tB
      have ht4 : hp_r G4 t = hp_r G t := by rw [hrk4.1.r (by rw [ht3]; decide) tqB, ht]
      have kk4 : ∀ x ∈ q :: B, hp_kd G4 x = 25 := fun x hx => (hT4.2 x hx).1
      obtain ⟨c1, c2⟩ := ins_list (G := G) (G' := G4) (q := q) (p0 := hp_r G4 t i) nd1 (by rw [← eL]; exact qB) (by rw [ht4]; exact hc1) hv1
        (fun x hx => by rw [hrk4.2.1 x 3 (Or.inl (by decide))]; exact h3 x (by rw [eL]; exact hx)) (by rw [hrk4.2.1 q 3 (Or.inl (by decide))]; exact q3) (by rw [hrk4.2.1 q 7 (Or.inr (by decide))]; exact q7)
        (fun x hx => by rw [hrk4.2.1 x 7 (Or.inr (by decide))]; exact h7 x (by rw [eL]; exact hx))
      have hm : ∀ x, x ∈ l1 ++ p :: q :: l2 ↔ x ∈ q :: B := fun x => by
        rw [eL]
        simp only [List.mem_cons, List.mem_append]
        constructor
        · rintro (u | u | u | u)
          · exact Or.inr (Or.inl u)
          · exact Or.inr (Or.inr (Or.inl u))
          · exact Or.inl u
          · exact Or.inr (Or.inr (Or.inr u))
        · rintro (u | u | u | u)
          · exact Or.inr (Or.inr (Or.inl u))
          · exact Or.inl u
          · exact Or.inr (Or.inl u)
          · exact Or.inr (Or.inr (Or.inr u))
      have nd2 : (l1 ++ p :: q :: l2).Nodup := by
        obtain ⟨n1, n2, n3⟩ := List.nodup_append.1 nd1
        have n4 := List.nodup_cons.1 n2
        have qB' : q ∉ l1 ++ p :: l2 := by rw [← eL]; exact qB
        refine List.nodup_append.2 ⟨n1, List.nodup_cons.2 ⟨fun u => ?_, List.nodup_cons.2 ⟨fun u => qB' (List.mem_append_right _ (List.mem_cons_of_mem _ u)), n4.2⟩⟩, fun x hx y hy e => ?_⟩
        · rcases List.mem_cons.1 u with u | u
          · exact npq u
          · exact n4.1 u
        · rcases List.mem_cons.1 hy with u | u
          · exact n3 x hx y (by rw [u]; exact List.mem_cons_self) e
          · rcases List.mem_cons.1 u with u | u
            · exact qB' (List.mem_append_left _ (by rw [← u, ← e]; exact hx))
            · exact n3 x hx y (List.mem_cons_of_mem _ u) e
      have r4m := hT4.1.1
      have ei4 : i = hix k (hp_i G4 r4 0) := by
        rw [hrk4.2.2.1 r4 0 (by decide), g3.2.2.2.1 r4 0 (by decide)]
        rcases List.mem_cons.1 r4m with e | e
        · rw [e, f4]; exact hl.symm
        · rw [(f9 r4 (ne r4 e)).2.1, (hN r4 e).1.2.2.2.1]; exact (hN r4 e).2.symm
      refine blJ26_putTreeVal_306 (J26_moveRootToFront_C (d := 0) (i := i) (k := k) (B := l1 ++ p :: q :: l2) (by rw [hrk4.1.kd (by rw [ht3]; decide)]; exact ht3) tA (by rw [hrk4.1.ln (by rw [ht3]; decide), g3.1.ln (by rw [(f9 t qt.symm).1, kt]; decide), f1.ln (by rw [kt]; decide)]; exact ln) hk ei4 c1 c2 ((hm r4).2 r4m) (fun x hx => ⟨kk4 x ((hm x).1 hx), AA x ((hm x).1 hx)⟩) nd2) (by show 0 + 1 ≤ d; omega) (Nat.zero_le _) ?_ (fun _ _ _ q => absurd q id)
      rintro u G5 ⟨rfl, ys, m1, m2, m3, m4, m5⟩
      have hm2 : ∀ x, x ∈ q :: B ↔ x ∈ r4 :: ys := fun x => (hm x).symm.trans (m1 x).symm
      have hT5 : tr G5 (q :: B) r4 ps' lo4 hi4 := hT4.fr4 (fun x hx => ⟨m5.1.kd (by rw [kk4 x hx]; decide), fun k hk => m5.2.1 x k (fun e => tqB (by rw [← e]; exact hx)) (by omega) (by omega)⟩)
      have m6 : tk (q :: B) t i G4 G5 := by
        have := lf.toT m5
        exact ⟨this.1.mono (fun x _ u => u.imp (fun v => (hm x).1 v) id), this.2⟩
      exact blJ26_putTreeVal_309 (Or.inr ⟨hnew, rfl, q, G1, hp_r G p 3, r4 :: ys, qA, hnN, (g3.tr (rk.toT hrk4 tqB (by rw [ht3]; decide))).tr m6, fun x => (hm2 x).symm, m2, m3, ⟨r4, ys, ps', lo4, hi4, rfl, m4, hT5.mem hm2, ho3.mem hm2⟩⟩)
    -- from 263 on, with p's child c set
    have tail : ∀ c, (c = 5 ∨ c = 6) → (∀ G3, hp_kd G3 q = 25 → (∀ x ∈ B, hp_kd G3 x = hp_kd G1 x) → (∀ x ∈ B, ∀ k, k = 4 ∨ k = 5 ∨ k = 6 → hp_r G3 x k = if x = p ∧ k = c then some q else hp_r G1 x k) → hp_r G3 q 4 = some p → hp_r G3 q 5 = none → hp_r G3 q 6 = none → ∃ ps' lo' hi', tr G3 (q :: B) h0 ps' lo' hi' ∧ tro (fun x => if x = q then l else Lf x) (q :: B) ps') →
        wk_V w mJ26_putTreeVal (d, 1, pt_P w G a t i B Lf l key v, (fun _ _ _ => False), hp_cs G, hp_ss G) 263 [(2, vR (some t)), (8, vR (some h0)), (13, vR (some p)), (14, vR (hp_r G p 3)), (15, vR (some q))] [] (hp_sR G1 p c (some q)) 0 := by
      intro c hcc leaf
      have c37 : c ≠ 3 ∧ c ≠ 7 ∧ 3 ≤ c ∧ c ≠ 4 := by omega
      have g3 : tk (q :: B) t i G1 (pt_G G1 p q c) := (((tk.id0.sR pm npt c37.2.2.1).sR pm npt (by decide)).sR qm qt (by decide)).sR qm qt (by decide)
      have e4 : ∀ x ∈ B, ∀ k, k = 4 ∨ k = 5 ∨ k = 6 → hp_r (pt_G G1 p q c) x k = if x = p ∧ k = c then some q else hp_r G1 x k := fun x hx k hk => by
        rw [pt_r (ne x hx)]
        by_cases e : x = p ∧ k = c
        · rw [if_pos e, if_pos ⟨e.1, Or.inr e.2⟩]
        · rw [if_neg e, if_neg (fun u => u.2.elim (fun v => by omega) (fun v => e ⟨u.1, v⟩))]
      have eq4 := pt_q (G := G1) (c := c) npq.symm 4
      have eq5 := pt_q (G := G1) (c := c) npq.symm 5
      have eq6 := pt_q (G := G1) (c := c) npq.symm 6
      have eq3 := pt_q (G := G1) (c := c) npq.symm 3
      have eq7 := pt_q (G := G1) (c := c) npq.symm 7
      rw [if_pos (by decide)] at eq4 eq7
      rw [if_neg (by decide)] at eq5 eq6 eq3
      rw [f8 5 (by decide)] at eq5
      rw [f8 6 (by decide)] at eq6
      rw [f7] at eq3
      have e3 : ∀ x ∈ B, hp_r (pt_G G1 p q c) x 3 = if x = p then some q else hp_r G x 3 := fun x hx => by
        rw [pt_r (ne x hx), r1 x hx]
        by_cases e : x = p
        · rw [if_pos e, if_pos ⟨e, Or.inl rfl⟩]
        · rw [if_neg e, if_neg (fun u => e u.1)]
      have e7 : ∀ x ∈ B, hp_r (pt_G G1 p q c) x 7 = hp_r G x 7 := fun x hx => by
        rw [pt_r (ne x hx), r1 x hx, if_neg (fun u => u.2.elim (fun v => by omega) (fun v => c37.2.1 v.symm))]
      have et : hp_r (pt_G G1 p q c) t = hp_r G t := by
        funext k
        rw [pt_r qt.symm, if_neg (fun u => npt u.1.symm), t1]
      refine blJ26_putTreeVal_263 rfl (kk1 p hp) (AB p hp) rfl f2 qA ?_
      refine blJ26_putTreeVal_280 rfl f2 qA (fun hn => ?_) (fun y hy => ?_)
      · obtain ⟨ps', lo', hi', u1, u2⟩ := leaf (pt_G G1 p q c) f2 (fun _ _ => rfl) e4 eq4 eq5 eq6
        exact last (pt_G G1 p q c) ps' lo' hi' g3 e3 eq3 eq7 (fun x hx => by rw [e7 x hx, if_neg (fun u => by rw [hn] at u; cases u)]) et u1 u2
      · obtain ⟨yB, yp⟩ := hp3 y hy
        have yq := ne y yB
        have yt : y ≠ t := fun e => tB (by rw [← e]; exact yB)
        rw [hy]
        refine blJ26_putTreeVal_288 (fun b hb => ?_) rfl (kk1 y yB) (AB y yB) ?_
        · have eb : b = y := (Option.some.inj hb).symm
          rw [eb]
          show hp_kd G1 y ≠ 0 ∧ hp_kd G1 y < 28 ∧ hp_sub (hp_kd G1 y) _
          rw [kk1 y yB]
          exact ⟨by decide, by decide, Or.inl rfl⟩
        · have ek : ∀ x k, k ≠ 7 → hp_r (hp_sR (pt_G G1 p q c) y 7 (some q)) x k = hp_r (pt_G G1 p q c) x k := fun x k hk => by
            rw [hp_r_sR]
            by_cases e : x = y
            · rw [if_pos e, if_neg hk]
            · rw [if_neg e]
          have eo : ∀ x k, x ≠ y → hp_r (hp_sR (pt_G G1 p q c) y 7 (some q)) x k = hp_r (pt_G G1 p q c) x k := fun x k hx => by rw [hp_r_sR, if_neg hx]
          obtain ⟨ps', lo', hi', u1, u2⟩ := leaf (hp_sR (pt_G G1 p q c) y 7 (some q)) f2 (fun _ _ => rfl) (fun x hx k hk => by rw [ek x k (by omega)]; exact e4 x hx k hk) (by rw [ek q 4 (by decide)]; exact eq4) (by rw [ek q 5 (by decide)]; exact eq5) (by rw [ek q 6 (by decide)]; exact eq6)
          refine last (hp_sR (pt_G G1 p q c) y 7 (some q)) ps' lo' hi' (g3.sR (List.mem_cons_of_mem _ yB) yt (by decide)) (fun x hx => by rw [ek x 3 (by decide)]; exact e3 x hx) (by rw [ek q 3 (by decide)]; exact eq3) (by rw [eo q 7 yq.symm]; exact eq7) (fun x hx => ?_) (by funext k; rw [eo t k yt.symm, et]) u1 u2
          rw [hp_r_sR]
          by_cases e : x = y
          · rw [if_pos e, if_pos rfl, if_pos (by rw [e]; exact hy)]
          · rw [if_neg e, e7 x hx, if_neg (fun u => e (Option.some.inj (u.symm.trans hy)))]
    refine blJ26_putTreeVal_239 (fun q9 => ?_) (fun q9 => ?_)
    · rcases hside with ⟨-, s1, s2⟩ | ⟨s0, -⟩
      · refine blJ26_putTreeVal_256 rfl (kk1 p hp) (AB p hp) (tail 6 (Or.inr rfl) (fun G3 g1 g2 g3 g4 g5 g6 => ?_))
        exact hT1.leaf6 (Lf := fun x => if x = q then l else Lf x) ho1 hp qB (by rw [r1 p hp]; exact s2) (by rw [if_pos rfl]; exact hwi1) (by rw [if_pos rfl, if_neg npq]; exact s1) gB1 (by rw [if_pos rfl]; exact gl) g1 g2 g3 g4 g5 g6
      · exact absurd q9 s0
    · rcases hside with ⟨s0, -⟩ | ⟨-, s1, s2⟩
      · exact absurd s0 q9
      · refine blJ26_putTreeVal_246 rfl (kk1 p hp) (AB p hp) (tail 5 (Or.inl rfl) (fun G3 g1 g2 g3 g4 g5 g6 => ?_))
        exact hT1.leaf5 (Lf := fun x => if x = q then l else Lf x) ho1 hp qB (by rw [r1 p hp]; exact s2) (by rw [if_pos rfl]; exact hwi1) (by rw [if_pos rfl, if_neg npq]; exact s1) gB1 (by rw [if_pos rfl]; exact gl) g1 g2 g3 g4 g5 g6
  -- the search
  have main : ∀ f p (kc : Option Nat), p ∈ B → hi p - lo p ≤ f → wi Lf B ps lo hi l p → (∀ z ∈ B, Lf z = l → lo p < ps z ∧ ps z < hi p) → (kc = none ∨ kc = some (hp_mi w "java/lang/String")) → wk_V w mJ26_putTreeVal (d, 1, pt_P w G a t i B Lf l key v, (fun _ _ _ => False), hp_cs G, hp_ss G) 27 [(1, vR (some a)), (2, vR (some t)), (3, vI (hx l)), (4, vR (some key)), (5, vR (some v)), (6, vR kc), (7, vI 0), (8, vR (some h0)), (9, vR (some p))] [] G 1 := by
    intro f
    induction f with
    | zero =>
      intro p kc hp hf
      have := (hT.2 p hp).2.1
      omega
    | succ f ihf =>
      intro p kc hp hf hwi hinv hkc
      have tp := hT.2 p hp
      have hwp := tp.2.1
      obtain ⟨o1, o2, o3, o4, ⟨kx, o5, o6⟩, o7⟩ := (hN p hp).1
      have gp := gB p hp
      have step : ∀ (x9 : Int32) (kc : Option Nat), Lf p ≠ l → (kc = none ∨ kc = some (hp_mi w "java/lang/String")) → (0 < x9 → kl (Lf p) l) → (¬ 0 < x9 → kl l (Lf p)) → wk_V w mJ26_putTreeVal (d, 1, pt_P w G a t i B Lf l key v, (fun _ _ _ => False), hp_cs G, hp_ss G) 193 [(1, vR (some a)), (2, vR (some t)), (3, vI (hx l)), (4, vR (some key)), (5, vR (some v)), (6, vR kc), (7, vI 0), (8, vR (some h0)), (9, vR (some p)), (10, vI x9)] [] G 1 := by
        intro x9 kc hne hkc hg1 hg2
        refine blJ26_putTreeVal_193 (fun q => ?_) (fun q => ?_)
        · have hside : ∀ z ∈ B, Lf z = l → ps p < ps z := fun z hz e => by
            rcases Nat.lt_trichotomy (ps z) (ps p) with u | u | u
            · have := (ho z hz p hp).1 u
              rw [e] at this
              exact absurd (kl_tr gl gp gl this (hg1 q)) (kl_irr gl)
            · exact absurd (by rw [← (ho z hz p hp).2 u]; exact e) hne
            · exact u
          refine blJ26_putTreeVal_210 rfl tp.1 (blJ26_putTreeVal_215 (fun b hb => ?_) (fun hb => ?_))
          · obtain ⟨b1, b2, b3, b4⟩ := tp.2.2.2.1 b hb
            rw [hb]
            refine blJ26_putTreeVal_311 (ihf b kc b1 (by omega) (hwi.right ho hp gB gl (hg1 q) b3 b4) (fun z hz e => ?_) hkc)
            have := hside z hz e
            have := hinv z hz e
            omega
          · refine hang p x9 hp hwi (fun z hz e => ?_) (Or.inl ⟨q, hg1 q, hb⟩)
            have h1 := hside z hz e
            have h2 := hinv z hz e
            rcases hT.sub hz hp h2.1 h2.2 with u | ⟨b, -, -, -, -, u⟩ | ⟨b, u, -⟩
            · rw [u] at h1; omega
            · omega
            · rw [hb] at u; cases u
        · have hside : ∀ z ∈ B, Lf z = l → ps z < ps p := fun z hz e => by
            rcases Nat.lt_trichotomy (ps z) (ps p) with u | u | u
            · exact u
            · exact absurd (by rw [← (ho z hz p hp).2 u]; exact e) hne
            · have := (ho p hp z hz).1 u
              rw [e] at this
              exact absurd (kl_tr gl gp gl (hg2 q) this) (kl_irr gl)
          refine blJ26_putTreeVal_202 rfl tp.1 (blJ26_putTreeVal_215 (fun b hb => ?_) (fun hb => ?_))
          · obtain ⟨b1, b2, b3, b4⟩ := tp.2.2.1 b hb
            rw [hb]
            refine blJ26_putTreeVal_311 (ihf b kc b1 (by omega) (hwi.left ho hp gB gl (hg2 q) b3 b4) (fun z hz e => ?_) hkc)
            have := hside z hz e
            have := hinv z hz e
            omega
          · refine hang p x9 hp hwi (fun z hz e => ?_) (Or.inr ⟨q, hg2 q, hb⟩)
            have h1 := hside z hz e
            have h2 := hinv z hz e
            rcases hT.sub hz hp h2.1 h2.2 with u | ⟨b, u, -⟩ | ⟨b, -, -, -, -, u⟩
            · rw [u] at h1; omega
            · rw [hb] at u; cases u
            · omega
      refine blJ26_putTreeVal_27 rfl tp.1 (fun q => ?_) (fun q => ?_)
      · rw [o4] at q ⊢
        refine blJ26_putTreeVal_45 (fun q2 => ?_) (fun q2 => ?_)
        · have hh : hx l = hx (Lf p) := Int32.le_antisymm q2 q
          refine blJ26_putTreeVal_57 rfl tp.1 (fun u => ?_) (fun u => ?_)
          · rw [o5] at u
            have e : kx = key := Option.some.inj u
            subst e
            exact blJ26_putTreeVal_85 (Or.inl ⟨p, hp, o6.1.uq hkey.1, rfl, rfl⟩)
          · rw [o5]
            refine blJ26_putTreeVal_70 (fun v => by cases v) (fun o _ => ?_)
            refine blJ26_putTreeVal_75_k26 rfl hkey.1.1 (J13_equals_C (d := 1) hkey.1 o6.1 (Nat.le_refl 1)) (by show 1 + 1 ≤ d; omega) (Nat.zero_le _) ?_ (fun _ _ _ q => absurd q id)
            rintro v5 G5 ⟨rfl, rfl⟩
            refine blJ26_putTreeVal_82 (fun v0 => ?_) (fun v1 => blJ26_putTreeVal_85 (Or.inl ⟨p, hp, (lx_b1 v1).symm, rfl, rfl⟩))
            have hne : ¬ l = Lf p := lx_b0.1 v0
            have fin : wk_V w mJ26_putTreeVal (d, 1, pt_P w G5 a t i B Lf l key v, (fun _ _ _ => False), hp_cs G5, hp_ss G5) 104 [(1, vR (some a)), (2, vR (some t)), (3, vI (hx l)), (4, vR (some key)), (5, vR (some v)), (6, vR (some (hp_mi w "java/lang/String"))), (7, vI 0), (8, vR (some h0)), (9, vR (some p)), (12, vR (some kx))] [] G5 1 := by
              refine blJ26_putTreeVal_104 (J7_compareComparables_C (d := 21) hkey.1 o6.1 hcmp (Nat.le_refl 21)) (by show 21 + 1 ≤ d; omega) (Nat.zero_le _) ?_ (fun _ _ _ q => absurd q id)
              rintro v6 G6 ⟨rfl, rfl⟩
              refine blJ26_putTreeVal_113 (fun vn => ?_) (fun v0 => absurd (cmpI_0 gl gp v0) hne)
              refine step _ _ (fun e => hne e.symm) (Or.inr rfl) (fun u => Or.inr ⟨hh.symm, ?_⟩) (fun u => Or.inr ⟨hh, ?_⟩)
              · rw [cmpI_lt gp gl]
                rw [Int32.lt_iff_toInt_lt, cmpI_Z _ _ gl gp] at u
                have u' : 0 < cmpZ l (Lf p) := u
                have := cmpZ_anti l (Lf p)
                omega
              · rw [Int32.lt_iff_toInt_lt]
                rw [Int32.lt_iff_toInt_lt] at u
                have z0 : (0 : Int32).toInt = 0 := rfl
                have : (cmpI l (Lf p)).toInt ≠ 0 := fun e => vn (Int32.toInt_inj.1 e)
                omega
            refine blJ26_putTreeVal_88 (fun o ho' => ?_) (fun hk0 => ?_)
            · rcases hkc with e | e
              · rw [e] at ho'; cases ho'
              · rw [e]; exact fin
            · refine blJ26_putTreeVal_93 (J7_comparableClassFor_C (d := 1) hkey.1.1 (Nat.le_refl 1)) (by show 1 + 1 ≤ d; omega) (Nat.zero_le _) ?_ (fun _ _ _ q => absurd q id)
              rintro v6 G6 ⟨rfl, rfl⟩
              exact blJ26_putTreeVal_98 (fun q => by cases q) (fun _ _ => fin)
        · have nl : Lf p ≠ l := fun e => by rw [e] at q2; exact q2 (Int32.le_refl _)
          exact blJ26_putTreeVal_51 (step _ _ nl hkc (fun _ => Or.inl (Int32.not_le.1 q2)) (fun u => absurd (by decide) u))
      · rw [o4] at q
        have nl : Lf p ≠ l := fun e => by rw [e] at q; exact q (Int32.le_refl _)
        exact blJ26_putTreeVal_39 (step _ _ nl hkc (fun u => absurd u (by decide)) (fun _ => Or.inl (Int32.not_le.1 q)))
  exact main (hi h0 - lo h0) h0 none hT.1.1 (Nat.le_refl _) (wi.root hT) (fun z hz _ => hT.all hz) (Or.inl rfl)
end
