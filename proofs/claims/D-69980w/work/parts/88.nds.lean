/-! all nodes; read's first loop -/
set_option maxRecDepth 100000
def nds (T : Nat → Int32) (n f0 : Nat) : Nat → Nat → MS → Option PE
  | 0, _, _ => none
  | f + 1, c, S => pr_b (nd T n f0 c S) fun _ c1 S1 => if lx_kind T n c1 = 0 then pr_ok 0 c1 S1 else nds T n f0 f c1 S1
theorem nds_ok {T : Nat → Int32} {n f0 : Nat} : ∀ f c e c' S S', nds T n f0 f c S = some (.inr (e, c', S')) → nd_I n c S → S.2 0 = T → e = 0 ∧ nd_I n c' S' ∧ c + 1 ≤ c' ∧ md_px S S' ∧ pr_N S < pr_N S' := by
  intro f
  induction f with
  | zero => intro c e c' S S' h; cases h
  | succ f ih =>
    intro c e c' S S' h hI hT
    unfold nds at h
    obtain ⟨e1, c1, S1, h1, h⟩ := pr_b_ok h
    obtain ⟨a1, a2, a3, a4, a5⟩ := nd_ok h1 hI hT
    split at h
    · have h' := Sum.inr.inj (Option.some.inj h)
      cases h'
      exact ⟨rfl, a2, a3, a4, by omega⟩
    · obtain ⟨b1, b2, b3, b4, b5⟩ := ih _ _ _ _ _ h a2 ((a4.2 0 (Or.inl rfl)).trans hT)
      exact ⟨b1, b2, by omega, a4.tr b4, by omega⟩
theorem nds_nn {T : Nat → Int32} {n f0 : Nat} (h0 : 20 * n + 20 ≤ f0) : ∀ f c S, n - c < f → nd_I n c S → S.2 0 = T → nds T n f0 f c S ≠ none := by
  intro f
  induction f with
  | zero => intro c S h; omega
  | succ f ih =>
    intro c S h hI hT
    unfold nds
    refine pr_b_nn (nd_nn hI hT h0) (fun e c1 S1 h1 => ?_)
    obtain ⟨a1, a2, a3, a4, a5⟩ := nd_ok h1 hI hT
    split
    · exact nn_ok
    · have := a2.2.2.2.1
      exact ih _ _ (by omega) a2 ((a4.2 0 (Or.inl rfl)).trans hT)
section
variable {z : MZ} {T : Nat → Int32} {n : Nat}
/-- where a fault of read goes on: caught, with the fault noted -/
def rd_X (z : MZ) (jm : MJ) (PX : Int32 → Int32 → MS → Prop) : Prop := ∀ kd pl σ, PX kd pl σ → ∀ G', ml_W z (ml_sf (ml_sf σ 3 kd) 4 pl) G' → hp_fr (ml_own z) z.2.2.2 G' → wk_V z.1 mX6_read (ml_j z jm) 292 [(0, vR (some z.2.1))] [] G' (jm.2.1 - 1)
theorem rd_X.kx {jm : MJ} {PX PX' : Int32 → Int32 → MS → Prop} {pc : Nat} (h : rd_X z jm PX) (hpc : 102 ≤ pc ∧ pc < 272) (hx : ∀ kd pl σ, PX' kd pl σ → PX kd pl σ) : ∀ E9 q9 G9, ml_X z PX' E9 q9 G9 → wk_T z.1 mX6_read (ml_j z jm) pc [(0, vR (some z.2.1))] G9 (jm.2.1 - 1) E9 q9 := fun E9 q9 G9 h9 =>
  read_catch hpc h9 (fun kd pl σ hP G' h1 h2 _ => h kd pl σ (hx _ _ _ hP) G' h1 h2)
theorem read_nodes {jm : MJ} {S0 : MS} {R r : PE} {f0 : Nat} (hw : ml_ws z) (hd : 960 ≤ jm.1) (hb : 1 ≤ jm.2.1) (hx : ∀ k, r = .inl k → R = .inl k) (hX : rd_X z jm (pq_X S0 R)) (K : ∀ c' S' σ E, r = .inr (0, c', S') → ps n c' S' σ → ml_V z mX6_read jm 113 [(0, vR (some z.2.1))] [] σ E jm.2.1) : ∀ f c S σ E, nds T n f0 f c S = some r → ps n c S σ → S.2 0 = T → nd_I n c S → md_px S0 S → ml_V z mX6_read jm 102 [(0, vR (some z.2.1))] [] σ E jm.2.1 := by
  intro f
  induction f with
  | zero => intro c S σ E h; cases h
  | succ f ih =>
    intro c S σ E h hs hT hI hpx
    unfold nds at h
    obtain ⟨r1, h1, hx1, h⟩ := pr_b_some h
    refine mbread_102 (X6_node_W hw hs hT hI h1 (Nat.le_refl 950)) (by omega) hb (pq_kr0 fun c1 σ he1 hs => ?_) (hX.kx (by decide) (pq_kx (fun k e => hx k (hx1 k e)) hpx))
    have h := h _ _ _ he1
    rw [he1] at h1
    obtain ⟨a1, a2, a3, a4, a5⟩ := nd_ok h1 hI hT
    have hT1 := (a4.2 0 (Or.inl rfl)).trans hT
    refine mbread_106 (ps_peek hs hT1 (Nat.le_refl 2)) (by omega) (Nat.zero_le _) (ml_krv fun σ ⟨hs, hS⟩ => ?_) (fun E q G ⟨_, _, _, _, _, u⟩ => u.elim)
    refine mbread_110 (fun q => ?_) (fun q => ?_)
    · rw [if_neg q] at h
      exact ih _ _ _ _ h hs hT1 a2 (hpx.tr a4)
    · rw [if_pos q] at h
      exact K _ _ _ _ (Option.some.inj h).symm hs
end
