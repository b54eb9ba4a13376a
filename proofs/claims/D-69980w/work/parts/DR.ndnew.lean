/-! THE COMPONENT's PARSER: between nodes; a node's object -/
set_option maxRecDepth 100000
section
variable {q : PZ} {S S' : MS} {X : Nat → Nat} {G G' G2 : GH} {c c1 Ln cn hN t : Nat} {own : Nat → Prop}
/-- between nodes: the list of the nodes, their names -/
def nsI (q : PZ) (c : Nat) (S : MS) (G : GH) (Ln cn hN : Nat) : Prop := rat q.1 c G ∧ kc q.1.1 G ∧ S.2 0 = rz_T q.1 ∧ ((hp_r G q.1.2.1 8 = some Ln ∧ ow G Ln q.1.2.1) ∧ al q.1.1 G Ln (pr_N S) cn (fun i => some (qN q i))) ∧ (hp_r G q.1.2.1 9 = some hN ∧ hm q.1.1 G hN (pr_N S) (mpf (nln (rz_T q.1) S) 0 (pr_N S) (qN q))) ∧ ∀ f, f < pr_N S → hp_kd G (qN q f) = 8
theorem al_rx {z : RZ} {a n e : Nat} {el : Nat → Option Nat} (h : al z.1 G a n e el) (hR : hp_kd G z.2.1 = 12) (hB : hp_kd G z.2.2.2.1 = 3) (hf : rx z no9 G G') : al z.1 G' a n e el := by
  have kL := h.1.1
  refine h.fr hf.1 ?_ (fun y _ hy => ?_)
  · rintro (u | u | u | u)
    · exact u
    · rw [u, hR] at kL; cases kL
    · rw [u, hB] at kL; cases kL
    · rw [u] at kL; cases kL
  · rintro (u | u | u | u)
    · exact u
    · rw [u, hR] at hy; cases hy
    · rw [u, hB] at hy; cases hy
    · rw [u] at hy; cases hy
theorem nsI.go (h : nsI q c S G Ln cn hN) (h1 : rat q.1 c1 G') (hf : rx q.1 no9 G G') (hk : rkk q.1 G G') : nsI q c1 S G' Ln cn hN := by
  obtain ⟨a1, a2, a3, ⟨a4, a5⟩, ⟨a6, a7⟩, a8⟩ := h
  have hR := a1.1.1.1
  have hB := a1.1.2.1.1
  exact ⟨h1, a2.fr hR hB hf (fun y u => u.elim), a3, ⟨⟨by rw [hk 8 (by decide)]; exact a4.1, a4.2.cg (hf.1.lg (by rw [a5.1.1]; decide))⟩, al_rx a5 hR hB hf⟩, ⟨by rw [hk 9 (by decide)]; exact a6, hm_rx a7 hR hB hf (fun y u => u.elim)⟩, fun f hfN => hf.1.k (a8 f hfN) (by decide)⟩
theorem nsI.scan (h : nsI q c S G Ln cn hN) (h1 : rat q.1 c1 G') (h2 : rs q.1 G G') : nsI q c1 S G' Ln cn hN ∧ rx q.1 no9 G G' ∧ rkk q.1 G G' := by
  have hf := h2.1.toX no9
  have hk : rkk q.1 G G' := fun k hk => h2.2 k (by omega)
  exact ⟨h.go h1 hf hk, hf, hk⟩
theorem X3_get0 {key hv d s : Nat} {m : List Nat → Option Nat} {l : List Nat} (h : rat q.1 c G) (hk : st q.1.1 G key l) (hm' : hm q.1.1 G hv s m) (hcmp : cmp_o q.1.1) (hd : 25 ≤ d) : wk_C q.1.1 mJ7_get d 0 [vR (some hv), vR (some key)] G (fun v G' => v = some (vR (m l)) ∧ rat q.1 c G' ∧ rs q.1 G G') (fun _ _ _ => False) := by
  refine (J7_get_C hm' hk hcmp hd).mono ?_ (fun _ _ _ u => u)
  rintro v G' ⟨rfl, g1, g2, g3⟩
  obtain ⟨r1, r2⟩ := rat_key h hk g2 g3
  exact ⟨rfl, r1, r2⟩
theorem mpf_nil {nl : Nat → List Nat} {a : Nat} {V : Nat → Nat} : mpf nl a a V = fun _ => none := by
  funext l
  unfold mpf
  rw [lx_find_nf (Nat.le_refl a) (fun j h1 h2 => by omega), if_neg (by omega)]
/-- the node's lists are empty -/
def ndl (q : PZ) (G0 G : GH) (t k L : Nat) : Prop := hp_r G t k = some L ∧ hp_kd G0 L = 0 ∧ ow G L t ∧ al q.1.1 G L 0 0 (fun _ => none)
theorem nd_new {n : Nat} (h : nsI q c1 S G Ln cn hN) (hI : nd_I n c S) (hn : n = rz_n q.1) (hc : c ≤ c1) (ht : hp_kd G t = 0) (hA : hp_A q.1.1 t) (hP : nd_P q.1.1 (hp_nw G t 8 0) t G2) (hk1 : lx_kind (rz_T q.1) (rz_n q.1) c1 = 1) :
    ∃ H, H = hp_sR (hp_sR G2 q.1.2.1 10 (some t)) t 0 (hp_r (hp_sR G2 q.1.2.1 10 (some t)) q.1.2.1 7) ∧ ∃ Lv hv Le Lc Lm Lr, rat q.1 c1 H ∧ env (q.1, q.2.1, q.2.2.1, t, q.2.2.2.2) (nd_0 S c1 (lx_end (rz_T q.1) (rz_n q.1) c1)) (pr_v S) H ∧ nvs (q.1, q.2.1, q.2.2.1, t, q.2.2.2.2) (nd_0 S c1 (lx_end (rz_T q.1) (rz_n q.1) c1)) (pr_v S) G H Lv hv 0 ∧ (ndl q G H t 3 Le ∧ ndl q G H t 4 Lc ∧ ndl q G H t 5 Lm ∧ ndl q G H t 6 Lr ∧ [Lv, Le, Lc, Lm, Lr].Nodup) ∧ (∃ nm, hp_r H t 0 = some nm ∧ st q.1.1 H nm (wd (rz_T q.1) c1 (lx_end (rz_T q.1) (rz_n q.1) c1))) ∧ (∀ k, hp_i H t k = 0) ∧ rx q.1 no9 G H ∧ rkk q.1 G H ∧ hp_cs H = hp_cs G2 ∧ hp_ss H = hp_ss G2 := by
  refine ⟨_, rfl, ?_⟩
  obtain ⟨a1, a2, a3, ⟨a4, a5⟩, ⟨a6, a7⟩, a8⟩ := id h
  have hR := a1.1.1.1
  have hB := a1.1.2.1.1
  have hcn := a1.2.1
  subst hn
  obtain ⟨hpg, hea, -⟩ := nd_A (T := rz_T q.1) hI hc hcn
  obtain ⟨Lv, hv, Le, Lc, Lm, Lr, ⟨r1, r2, r3, r4, r5, r6⟩, hnd, hLs, ⟨h1, h2⟩, hcf, e0, ei⟩ := hP
  have f1 : cf (fun _ => False) G (hp_nw G t 8 0) := cf.rf.nw ht
  have f2 : cf (fun _ => False) G G2 := f1.tr2 hcf (fun y hy u => absurd ht (by rw [← u]; exact hy))
  have kt2 : hp_kd G2 t = 8 := hcf.k (by rw [hp_kd_nw, if_pos rfl]) (by decide)
  have kR2 : hp_kd G2 q.1.2.1 = 12 := f2.k hR (by decide)
  have nRt : ¬ t = q.1.2.1 := fun u => by rw [u, hR] at ht; cases ht
  have nRt' : ¬ q.1.2.1 = t := fun u => nRt u.symm
  generalize hH : hp_sR (hp_sR G2 q.1.2.1 10 (some t)) t 0 (hp_r (hp_sR G2 q.1.2.1 10 (some t)) q.1.2.1 7) = H
  have f34 : cf (fun y => y = q.1.2.1 ∨ y = t) G2 H := by rw [← hH]; exact ((cf.rf (own := fun y => y = q.1.2.1 ∨ y = t)).sR (Or.inl (Or.inl rfl))).sR (Or.inl (Or.inr rfl))
  have f5 : cf (fun y => y = q.1.2.1) G H := (f2.mono (own2 := fun y => y = q.1.2.1) (fun _ _ u => u.elim)).tr2 f34 (fun y hy u => u.elim id (fun w => absurd ht (by rw [← w]; exact hy)))
  have x34 : rx q.1 (fun y => y = q.1.2.1 ∨ y = t) G2 H := rx_of f34 (fun a u => u.elim (fun w => by rw [w, kR2]; exact ⟨by decide, by decide⟩) (fun w => by rw [w, kt2]; exact ⟨by decide, by decide⟩))
  have x5 : rx q.1 (fun y => y = q.1.2.1) G H := rx_of f5 (fun a u => by rw [u, hR]; exact ⟨by decide, by decide⟩)
  have x9 : rx q.1 no9 G H := ⟨x5.1.mono (fun a _ u => u.elim (fun w => Or.inr (Or.inl w)) (fun w => Or.inr w)), x5.2⟩
  have rR : ∀ k, k ≠ 10 → hp_r H q.1.2.1 k = hp_r G q.1.2.1 k := fun k hk => by
    rw [← hH, hp_r_sR, if_neg nRt', hp_r_sR, if_pos rfl, if_neg hk, f2.r (by rw [hR]; decide) (fun u => u)]
  have rR10 : hp_r H q.1.2.1 10 = some t := by rw [← hH, hp_r_sR, if_neg nRt', hp_r_sR, if_pos rfl, if_pos rfl]
  have iR : hp_i H q.1.2.1 = hp_i G q.1.2.1 := by
    have e : hp_i H q.1.2.1 = hp_i G2 q.1.2.1 := by rw [← hH]; rfl
    rw [e, f2.i (by rw [hR]; decide) (fun u => u)]
  have rt : ∀ k, k ≠ 0 → hp_r H t k = hp_r G2 t k := fun k hk => by
    rw [← hH, hp_r_sR, if_pos rfl, if_neg hk, hp_r_sR, if_neg nRt]
  have rt0 : hp_r H t 0 = hp_r G q.1.2.1 7 := by
    rw [← hH, hp_r_sR, if_pos rfl, if_pos rfl, hp_r_sR, if_pos rfl, if_neg (by decide), f2.r (by rw [hR]; decide) (fun u => u)]
  have it : ∀ k, hp_i H t k = 0 := fun k => by
    have e : hp_i H t = hp_i G2 t := by rw [← hH]; rfl
    rw [e, ei, hp_i_nw, if_pos rfl]
  have kt : hp_kd H t = 8 := by rw [← hH]; exact kt2
  have ratH : rat q.1 c1 H := by
    obtain ⟨⟨⟨b1, b2, b3, b4, b5⟩, ⟨b6, b7⟩, ⟨b8, b9, b10⟩, b11⟩, g2, g3, g4, g5, g6, g7⟩ := a1
    refine ⟨⟨⟨x9.1.k b1 (by decide), b2, by rw [rR 0 (by decide)]; exact b3, by rw [rR 1 (by decide)]; exact b4, by rw [iR]; exact b5⟩, ⟨x9.1.k b6 (by decide), b7⟩, ⟨x9.1.k b8 (by decide), ?_, fun i hi => ?_⟩, b11⟩, g2, by rw [iR]; exact g3, by rw [iR]; exact g4, by rw [rR 6 (by decide)]; exact g5, fun u => ?_, fun u => by rw [iR]; exact g7 u⟩
    · rw [f5.ln (by rw [b8]; decide)]; exact b9
    · rw [f5.i (by rw [b8]; decide) (fun u => by rw [u, b1] at b8; cases b8)]; exact b10 i hi
    · obtain ⟨a, y1, y2⟩ := g6 u
      exact ⟨a, by rw [rR 7 (by decide)]; exact y1, x9.2.2 _ _ y2⟩
  have alH : ∀ L, al q.1.1 G2 L 0 0 (fun _ => none) → al q.1.1 H L 0 0 (fun _ => none) := fun L u => by
    have kL := u.1.1
    refine u.fr f34 ?_ (fun y _ hy => ?_)
    · rintro (w | w)
      · rw [w, kR2] at kL; cases kL
      · rw [w, kt2] at kL; cases kL
    · rintro (w | w)
      · rw [w, kR2] at hy; cases hy
      · rw [w, kt2] at hy; cases hy
  have owH : ∀ L, al q.1.1 G2 L 0 0 (fun _ => none) → ow G2 L t → ow H L t := fun L u w => w.cg (f34.lg (by rw [u.1.1]; decide))
  have frL : ∀ L, hp_kd (hp_nw G t 8 0) L = 0 → hp_kd G L = 0 := fun L u => by
    rw [hp_kd_nw] at u
    by_cases w : L = t
    · rw [w]; exact ht
    · rw [if_neg w] at u; exact u
  have hl : ∀ L, L ∈ [Lv, Le, Lc, Lm, Lr] → hp_kd G L = 0 ∧ ow H L t ∧ al q.1.1 H L 0 0 (fun _ => none) := fun L u => by
    obtain ⟨w1, w2, w3⟩ := hLs L u
    exact ⟨frL L w1, owH L w2 w3, alH L w2⟩
  have lv := hl Lv (by simp)
  have le := hl Le (by simp)
  have lc := hl Lc (by simp)
  have lm := hl Lm (by simp)
  have lr := hl Lr (by simp)
  have hvH : hm q.1.1 H hv 0 (fun _ => none) := by
    have kh := h2.1.1
    refine h2.fr f34 x34.2.2 ?_ (fun y _ hy => ?_)
    · rintro (w | w)
      · rw [w, kR2] at kh; cases kh
      · rw [w, kt2] at kh; cases kh
    · rintro (w | w)
      · rw [w, kR2] at hy; omega
      · rw [w, kt2] at hy; omega
  obtain ⟨wa, wa1, wa2⟩ := a1.2.2.2.2.2.1 hk1
  refine ⟨Lv, hv, Le, Lc, Lm, Lr, ratH, ⟨a2.fr hR hB x9 (fun y u => u.elim), ⟨kt, hA, rR10⟩, ⟨hN, by rw [rR 9 (by decide)]; exact a6, ?_⟩, ⟨hv, by show hp_r H t 2 = some hv; rw [rt 2 (by decide)]; exact r2, ?_⟩, fun f hf => x9.1.k (a8 f hf) (by decide), fun v u1 u2 => by rw [hea] at u1; omega⟩, ⟨by show hp_r H t 1 = some Lv; rw [rt 1 (by decide)]; exact r1, by show hp_r H t 2 = some hv; rw [rt 2 (by decide)]; exact r2, ⟨lv.1, frL hv h1, ht, fun j u1 u2 => by rw [hea] at u1; omega⟩, lv.2.1, ?_⟩, ⟨⟨by rw [rt 3 (by decide)]; exact r3, le⟩, ⟨by rw [rt 4 (by decide)]; exact r4, lc⟩, ⟨by rw [rt 5 (by decide)]; exact r5, lm⟩, ⟨by rw [rt 6 (by decide)]; exact r6, lr⟩, hnd⟩, ⟨wa, by rw [rt0]; exact wa1, x9.2.2 _ _ wa2⟩, it, x9, fun k hk => rR k (by omega), by rw [← hH]; rfl, by rw [← hH]; rfl⟩
  · have e : mpf (nln (rz_T q.1) (nd_0 S c1 (lx_end (rz_T q.1) (rz_n q.1) c1))) 0 (pr_N S) (qN q) = mpf (nln (rz_T q.1) S) 0 (pr_N S) (qN q) := mpf_cg (fun i _ h2 => by
      unfold nln
      rw [nd_0_2, nd_0_2, if_neg (by omega), if_neg (by omega), if_neg (by omega), if_neg (by omega), if_neg (by omega), if_neg (by omega)]) (fun _ _ _ => rfl) (Nat.zero_le _)
    show hm q.1.1 H hN (pr_N S) (mpf (nln (rz_T q.1) (nd_0 S c1 (lx_end (rz_T q.1) (rz_n q.1) c1))) 0 (pr_N S) (qN q))
    rw [e]
    exact hm_rx a7 hR hB x9 (fun y u => u.elim)
  · rw [hea, mpf_nil, Nat.sub_self]
    exact hvH
  · rw [hea, Nat.sub_self]
    exact lv.2.2.cg (fun i hi => absurd hi (Nat.not_lt_zero i))
end
