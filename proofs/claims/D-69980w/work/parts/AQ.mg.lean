/-! read's rules for a job with any end; printed by tools/gen_mg.py -/
set_option maxRecDepth 100000
/-- what read owes: depth, budget, its end, what it throws -/
abbrev MG : Type := Nat × Nat × (Option WV → GH → Prop) × (String → Nat → GH → Prop)
def mg_j (z : MZ) (jm : MG) : JB := (jm.1, jm.2.1, jm.2.2.1, jm.2.2.2, hp_cs z.2.2.2, hp_ss z.2.2.2)
def mg_V (z : MZ) (M : MI) (jm : MG) (pc : Nat) (lv : List (Nat × WV)) (st : List WV) (σ : MS) (E : GH → Prop) (r : Nat) : Prop :=
  ∀ G, ml_W z σ G → ml_F z jm.2.1 r G → E G → wk_V z.1 M (mg_j z jm) pc lv st G r
section
variable {z : MZ} {M : MI} {jm : MG} {pc r : Nat} {lv : List (Nat × WV)} {st st0 : List WV} {σ : MS} {G : GH}
theorem mg_getI (k : Nat) {idx : Nat} (h1 : ml_W z σ G) (hF : hp_FL M.1.cls idx 1 k) (hty : hp_isI (hp_ty 1 k) = true) (hd : decode M.2.1 pc = .ok (.getfield idx, 3)) (kk : wk_V z.1 M (mg_j z jm) (pc + 3) lv (vI (σ.1 k) :: st) G r) : wk_V z.1 M (mg_j z jm) pc lv (vR (some z.2.1) :: st) G r :=
  wk_getI 1 k hF hty h1.1.1 hd (by rw [h1.2.2.2.1 k]; exact kk)
theorem mg_getA (k : Nat) {idx : Nat} (h1 : ml_W z σ G) (hF : hp_FL M.1.cls idx 1 k) (hty : hp_isR (hp_ty 1 k) = true) (ha : ml_ar k ≠ 0) (hd : decode M.2.1 pc = .ok (.getfield idx, 3)) (kk : wk_V z.1 M (mg_j z jm) (pc + 3) lv (vR (some (z.2.2.1 k)) :: st) G r) : wk_V z.1 M (mg_j z jm) pc lv (vR (some z.2.1) :: st) G r :=
  wk_getR 1 k hF hty h1.1.1 hd (by rw [(h1.2.1 k ha).1]; exact kk)
theorem mg_putI (k : Nat) {idx : Nat} {v : Int32} (h1 : ml_W z σ G) (h2 : ml_F z jm.2.1 r G) (hF : hp_FL M.1.cls idx 1 k) (hty : hp_isI (hp_ty 1 k) = true) (hfin : (hp_T 1 k).2.2.2 = false ∨ (M.1.name = "<init>" ∧ (hp_T 1 k).1 = M.1.cls)) (hok : hp_ok (hp_ty 1 k) v) (ha : ml_ar k = 0)
    (hd : decode M.2.1 pc = .ok (.putfield idx, 3)) (kk : ∀ G', ml_W z (ml_sf σ k v) G' → ml_F z jm.2.1 r G' → wk_V z.1 M (mg_j z jm) (pc + 3) lv st G' r) : wk_V z.1 M (mg_j z jm) pc lv (vI v :: vR (some z.2.1) :: st) G r :=
  wk_putI 1 k hF hty hfin h1.1.1 h1.1.2 hok hd (kk _ (h1.sf ha) (h2.sI (Or.inl rfl)))
theorem mg_iald (k : Nat) {i : Int32} (h1 : ml_W z σ G) (ha : ml_ar k = 28) (hin : vp_in i (ml_len k)) (hd : decode M.2.1 pc = .ok (.iaload, 1)) (kk : wk_V z.1 M (mg_j z jm) (pc + 1) lv (vI (σ.2 k i.toNatClampNeg) :: st) G r) : wk_V z.1 M (mg_j z jm) pc lv (vI i :: vR (some (z.2.2.1 k)) :: st) G r := by
  obtain ⟨-, e2, e3, -⟩ := h1.2.1 k (by omega)
  exact wk_iald (by rw [e2]; exact ha) (by rw [e3]; exact hin) hd (by rw [h1.2.2.2.2 k (by omega)]; exact kk)
theorem mg_iast (k : Nat) {i v : Int32} (h1 : ml_W z σ G) (h2 : ml_F z jm.2.1 r G) (ha : ml_ar k = 28) (hin : vp_in i (ml_len k)) (hd : decode M.2.1 pc = .ok (.iastore, 1)) (kk : ∀ G', ml_W z (ml_sa σ k i.toNatClampNeg v) G' → ml_F z jm.2.1 r G' → wk_V z.1 M (mg_j z jm) (pc + 1) lv st G' r) : wk_V z.1 M (mg_j z jm) pc lv (vI v :: vI i :: vR (some (z.2.2.1 k)) :: st) G r := by
  obtain ⟨-, e2, e3, e4⟩ := h1.2.1 k (by omega)
  exact wk_iast (by rw [e2]; exact ha) e4 (by rw [e3]; exact hin) hd (kk _ (h1.sa (by omega)) (h2.sI (Or.inr ⟨k, by omega, rfl⟩)))
theorem mg_ret {b' pc' : Nat} {P : Option WV → MS → GH → Prop} (hr : r = jm.2.1) (kr : ∀ v σ', mg_V z M jm pc' lv (v.toList ++ st) σ' (P v σ') r) : ∀ v G', ml_P z P v G' → wk_V z.1 M (mg_j z jm) pc' lv (v.toList ++ st) G' (r - b') :=
  fun v G' ⟨σ', h1, h2, h3⟩ => wk_raise (r' := r) (by show hp_cs G' + r ≤ hp_cs z.2.2.2 + jm.2.1; rw [h2.2.1, hr]; exact Nat.le_refl _) (by show hp_ss G' + 12 * r ≤ hp_ss z.2.2.2 + 12 * jm.2.1; rw [h2.2.2, hr]; exact Nat.le_refl _) (kr v σ' G' h1 ⟨h2.1, Nat.le_of_eq hr, fun _ => h2.2⟩ h3)
theorem mg_thr0 {b' : Nat} {PX : Int32 → Int32 → MS → Prop} (h0 : ∀ kd pl σ', PX kd pl σ' → False) : ∀ E q G', ml_X z PX E q G' → wk_T z.1 M (mg_j z jm) pc lv G' (r - b') E q :=
  fun E q G' ⟨_, _, _, _, _, h3⟩ => absurd h3 (fun h => h0 _ _ _ h)
theorem mg_kr {Q : Option WV → MS → Prop} (k : ∀ v σ', Q v σ' → mg_V z M jm pc lv (v.toList ++ st) σ' (fun _ => True) r) : ∀ v σ', mg_V z M jm pc lv (v.toList ++ st) σ' (fun _ => Q v σ') r := fun v σ' G g1 g2 g3 => k v σ' g3 G g1 g2 trivial
theorem mg_krv {Q : MS → Prop} {v0 : WV} (k : ∀ σ', Q σ' → mg_V z M jm pc lv (v0 :: st) σ' (fun _ => True) r) : ∀ v σ', mg_V z M jm pc lv (v.toList ++ st) σ' (fun _ => v = some v0 ∧ Q σ') r := fun v σ' G g1 g2 g3 => by
  obtain ⟨rfl, g3⟩ := g3
  exact k σ' g3 G g1 g2 trivial
theorem mg_kr0 {Q : MS → Prop} (k : ∀ σ', Q σ' → mg_V z M jm pc lv st σ' (fun _ => True) r) : ∀ v σ', mg_V z M jm pc lv (v.toList ++ st) σ' (fun _ => v = none ∧ Q σ') r := fun v σ' G g1 g2 g3 => by
  obtain ⟨rfl, g3⟩ := g3
  exact k σ' g3 G g1 g2 trivial
theorem mg_pq0 {n : Nat} {r1 : PE} (k : ∀ c1 σ', r1 = .inr (0, c1, lx_nz σ') → ps n c1 (lx_nz σ') σ' → mg_V z M jm pc lv st σ' (fun _ => True) r) : ∀ v σ', mg_V z M jm pc lv (v.toList ++ st) σ' (fun _ => pq_N0 n r1 v σ') r := fun v σ' G g1 g2 g3 => by
  obtain ⟨c', he, rfl, hI⟩ := g3
  exact k c' σ' he ⟨hI, rfl⟩ G g1 g2 trivial
end
theorem mgread_0 {z : MZ} {jm : MG} {r : Nat} {σ : MS} {E : GH → Prop}
    (k : mg_V z mX6_read jm 20 [(0, vR (some z.2.1))] [] (ml_sf (ml_sf (ml_sf (ml_sf (σ) 2 (0 : Int32)) 5 (0 : Int32)) 9 (0 : Int32)) 3 (0 : Int32)) (fun _ => True) r)
    : mg_V z mX6_read jm 0 [(0, vR (some z.2.1))] [] σ E r := by
  intro G h1 h2 h3
  refine wk_aload_n 0 dX6_read_0 rfl rfl ?_
  refine wk_iconst (0 : Int32) dX6_read_1 (by decide) ?_
  refine mg_putI 2 h1 h2 flX6_18 rfl (Or.inl rfl) ⟨rfl, rfl⟩ rfl dX6_read_2 (fun G h1 h2 => ?_)
  refine wk_aload_n 0 dX6_read_5 rfl rfl ?_
  refine wk_iconst (0 : Int32) dX6_read_6 (by decide) ?_
  refine mg_putI 5 h1 h2 flX6_27 rfl (Or.inl rfl) ⟨rfl, rfl⟩ rfl dX6_read_7 (fun G h1 h2 => ?_)
  refine wk_aload_n 0 dX6_read_10 rfl rfl ?_
  refine wk_iconst (0 : Int32) dX6_read_11 (by decide) ?_
  refine mg_putI 9 h1 h2 flX6_39 rfl (Or.inl rfl) ⟨rfl, rfl⟩ rfl dX6_read_12 (fun G h1 h2 => ?_)
  refine wk_aload_n 0 dX6_read_15 rfl rfl ?_
  refine wk_iconst (0 : Int32) dX6_read_16 (by decide) ?_
  refine mg_putI 3 h1 h2 flX6_21 rfl (Or.inl rfl) ⟨rfl, rfl⟩ rfl dX6_read_17 (fun G h1 h2 => ?_)
  exact (k G h1 h2 trivial)
theorem mgread_20 {z : MZ} {jm : MG} {r : Nat} {σ : MS} {E : GH → Prop}
    (k : mg_V z mX6_read jm 40 [(0, vR (some z.2.1))] [] (ml_sf (ml_sf (ml_sf (ml_sf (σ) 4 (0 : Int32)) 18 (0 : Int32)) 19 (0 : Int32)) 30 (0 : Int32)) (fun _ => True) r)
    : mg_V z mX6_read jm 20 [(0, vR (some z.2.1))] [] σ E r := by
  intro G h1 h2 h3
  refine wk_aload_n 0 dX6_read_20 rfl rfl ?_
  refine wk_iconst (0 : Int32) dX6_read_21 (by decide) ?_
  refine mg_putI 4 h1 h2 flX6_24 rfl (Or.inl rfl) ⟨rfl, rfl⟩ rfl dX6_read_22 (fun G h1 h2 => ?_)
  refine wk_aload_n 0 dX6_read_25 rfl rfl ?_
  refine wk_iconst (0 : Int32) dX6_read_26 (by decide) ?_
  refine mg_putI 18 h1 h2 flX6_68 rfl (Or.inl rfl) ⟨rfl, rfl⟩ rfl dX6_read_27 (fun G h1 h2 => ?_)
  refine wk_aload_n 0 dX6_read_30 rfl rfl ?_
  refine wk_iconst (0 : Int32) dX6_read_31 (by decide) ?_
  refine mg_putI 19 h1 h2 flX6_71 rfl (Or.inl rfl) ⟨rfl, rfl⟩ rfl dX6_read_32 (fun G h1 h2 => ?_)
  refine wk_aload_n 0 dX6_read_35 rfl rfl ?_
  refine wk_iconst (0 : Int32) dX6_read_36 (by decide) ?_
  refine mg_putI 30 h1 h2 flX6_106 rfl (Or.inl rfl) ⟨rfl, rfl⟩ rfl dX6_read_37 (fun G h1 h2 => ?_)
  exact (k G h1 h2 trivial)
theorem mgread_40 {z : MZ} {jm : MG} {r : Nat} {σ : MS} {E : GH → Prop}
    (hi1 : vp_in (0 : Int32) 17001)
    (k : mg_V z mX6_read jm 62 [(0, vR (some z.2.1))] [] (ml_sf (ml_sf (ml_sa (ml_sf (σ) 31 (0 : Int32)) 26 (0 : Int32).toNatClampNeg (0 : Int32)) 40 (0 : Int32)) 49 (-1 : Int32)) (fun _ => True) r)
    : mg_V z mX6_read jm 40 [(0, vR (some z.2.1))] [] σ E r := by
  intro G h1 h2 h3
  refine wk_aload_n 0 dX6_read_40 rfl rfl ?_
  refine wk_iconst (0 : Int32) dX6_read_41 (by decide) ?_
  refine mg_putI 31 h1 h2 flX6_109 rfl (Or.inl rfl) ⟨rfl, rfl⟩ rfl dX6_read_42 (fun G h1 h2 => ?_)
  refine wk_aload_n 0 dX6_read_45 rfl rfl ?_
  refine mg_getA 26 h1 flX6_93 rfl (by decide) dX6_read_46 ?_
  refine wk_iconst (0 : Int32) dX6_read_49 (by decide) ?_
  refine wk_iconst (0 : Int32) dX6_read_50 (by decide) ?_
  refine mg_iast 26 h1 h2 rfl hi1 dX6_read_51 (fun G h1 h2 => ?_)
  refine wk_aload_n 0 dX6_read_52 rfl rfl ?_
  refine wk_iconst (0 : Int32) dX6_read_53 (by decide) ?_
  refine mg_putI 40 h1 h2 flX6_136 rfl (Or.inl rfl) ⟨rfl, rfl⟩ rfl dX6_read_54 (fun G h1 h2 => ?_)
  refine wk_aload_n 0 dX6_read_57 rfl rfl ?_
  refine wk_iconst (-1 : Int32) dX6_read_58 (by decide) ?_
  refine mg_putI 49 h1 h2 flX6_163 rfl (Or.inl rfl) ⟨rfl, rfl⟩ rfl dX6_read_59 (fun G h1 h2 => ?_)
  exact (k G h1 h2 trivial)
theorem mgread_62 {z : MZ} {jm : MG} {r : Nat} {σ : MS} {E : GH → Prop}
    (k : mg_V z mX6_read jm 82 [(0, vR (some z.2.1))] [] (ml_sf (ml_sf (ml_sf (ml_sf (σ) 50 (0 : Int32)) 51 (0 : Int32)) 52 (0 : Int32)) 53 (0 : Int32)) (fun _ => True) r)
    : mg_V z mX6_read jm 62 [(0, vR (some z.2.1))] [] σ E r := by
  intro G h1 h2 h3
  refine wk_aload_n 0 dX6_read_62 rfl rfl ?_
  refine wk_iconst (0 : Int32) dX6_read_63 (by decide) ?_
  refine mg_putI 50 h1 h2 flX6_166 rfl (Or.inl rfl) ⟨rfl, rfl⟩ rfl dX6_read_64 (fun G h1 h2 => ?_)
  refine wk_aload_n 0 dX6_read_67 rfl rfl ?_
  refine wk_iconst (0 : Int32) dX6_read_68 (by decide) ?_
  refine mg_putI 51 h1 h2 flX6_169 rfl (Or.inl rfl) ⟨rfl, rfl⟩ rfl dX6_read_69 (fun G h1 h2 => ?_)
  refine wk_aload_n 0 dX6_read_72 rfl rfl ?_
  refine wk_iconst (0 : Int32) dX6_read_73 (by decide) ?_
  refine mg_putI 52 h1 h2 flX6_172 rfl (Or.inl rfl) ⟨rfl, rfl⟩ rfl dX6_read_74 (fun G h1 h2 => ?_)
  refine wk_aload_n 0 dX6_read_77 rfl rfl ?_
  refine wk_iconst (0 : Int32) dX6_read_78 (by decide) ?_
  refine mg_putI 53 h1 h2 flX6_175 rfl (Or.inl rfl) ⟨rfl, rfl⟩ rfl dX6_read_79 (fun G h1 h2 => ?_)
  exact (k G h1 h2 trivial)
theorem mgread_82 {z : MZ} {jm : MG} {r : Nat} {σ : MS} {E : GH → Prop}
    (k : mg_V z mX6_read jm 102 [(0, vR (some z.2.1))] [] (ml_sf (ml_sf (ml_sf (ml_sf (σ) 54 (0 : Int32)) 67 (0 : Int32)) 72 (0 : Int32)) 83 (0 : Int32)) (fun _ => True) r)
    : mg_V z mX6_read jm 82 [(0, vR (some z.2.1))] [] σ E r := by
  intro G h1 h2 h3
  refine wk_aload_n 0 dX6_read_82 rfl rfl ?_
  refine wk_iconst (0 : Int32) dX6_read_83 (by decide) ?_
  refine mg_putI 54 h1 h2 flX6_178 rfl (Or.inl rfl) ⟨rfl, rfl⟩ rfl dX6_read_84 (fun G h1 h2 => ?_)
  refine wk_aload_n 0 dX6_read_87 rfl rfl ?_
  refine wk_iconst (0 : Int32) dX6_read_88 (by decide) ?_
  refine mg_putI 67 h1 h2 flX6_218 rfl (Or.inl rfl) ⟨rfl, rfl⟩ rfl dX6_read_89 (fun G h1 h2 => ?_)
  refine wk_aload_n 0 dX6_read_92 rfl rfl ?_
  refine wk_iconst (0 : Int32) dX6_read_93 (by decide) ?_
  refine mg_putI 72 h1 h2 flX6_233 rfl (Or.inl rfl) ⟨rfl, rfl⟩ rfl dX6_read_94 (fun G h1 h2 => ?_)
  refine wk_aload_n 0 dX6_read_97 rfl rfl ?_
  refine wk_iconst (0 : Int32) dX6_read_98 (by decide) ?_
  refine mg_putI 83 h1 h2 flX6_266 rfl (Or.inl rfl) ⟨rfl, rfl⟩ rfl dX6_read_99 (fun G h1 h2 => ?_)
  exact (k G h1 h2 trivial)
theorem mgread_102 {z : MZ} {jm : MG} {r : Nat} {σ : MS} {E : GH → Prop} {d' b' : Nat} {P : Option WV → MS → GH → Prop} {PX : Int32 → Int32 → MS → Prop}
    (hC : ml_C z mX6_node d' b' [vR (some z.2.1)] (σ) P PX)
    (hdp : d' + 1 ≤ jm.1)
    (hb : b' ≤ r)
    (kr : ∀ v σ', mg_V z mX6_read jm 106 [(0, vR (some z.2.1))] (v.toList ++ []) σ' (P v σ') r)
    (kx : ∀ E9 q9 G9, ml_X z PX E9 q9 G9 → wk_T z.1 mX6_read (mg_j z jm) 103 [(0, vR (some z.2.1))] G9 (r - b') E9 q9)
    (hr : r = jm.2.1 := by rfl)
    : mg_V z mX6_read jm 102 [(0, vR (some z.2.1))] [] σ E r := by
  intro G h1 h2 h3
  refine wk_aload_n 0 dX6_read_102 rfl rfl ?_
  exact wk_callV (hC G h1 (h2.fc hr)) rfl q2858 q2860 qs51 q122 q2861 mdX6_node (Nat.le_of_ble_eq_true rfl) ⟨by rw [h1.1.1]; decide, by rw [h1.1.1]; decide, by rw [h1.1.1]; rfl⟩ rfl rfl (Nat.le_of_ble_eq_true rfl) hdp hb dX6_read_103 (mg_ret hr kr) kx
theorem mgread_106 {z : MZ} {jm : MG} {r : Nat} {σ : MS} {E : GH → Prop} {d' b' : Nat} {P : Option WV → MS → GH → Prop} {PX : Int32 → Int32 → MS → Prop}
    (hC : ml_C z mX6_peek d' b' [vR (some z.2.1)] (σ) P PX)
    (hdp : d' + 1 ≤ jm.1)
    (hb : b' ≤ r)
    (kr : ∀ v σ', mg_V z mX6_read jm 110 [(0, vR (some z.2.1))] (v.toList ++ []) σ' (P v σ') r)
    (kx : ∀ E9 q9 G9, ml_X z PX E9 q9 G9 → wk_T z.1 mX6_read (mg_j z jm) 107 [(0, vR (some z.2.1))] G9 (r - b') E9 q9)
    (hr : r = jm.2.1 := by rfl)
    : mg_V z mX6_read jm 106 [(0, vR (some z.2.1))] [] σ E r := by
  intro G h1 h2 h3
  refine wk_aload_n 0 dX6_read_106 rfl rfl ?_
  exact wk_callV (hC G h1 (h2.fc hr)) rfl q2867 q2869 qs53 q122 q2870 mdX6_peek (Nat.le_of_ble_eq_true rfl) ⟨by rw [h1.1.1]; decide, by rw [h1.1.1]; decide, by rw [h1.1.1]; rfl⟩ rfl rfl (Nat.le_of_ble_eq_true rfl) hdp hb dX6_read_107 (mg_ret hr kr) kx
theorem mgread_110 {z : MZ} {jm : MG} {r : Nat} {σ : MS} {E : GH → Prop} {s0 : Int32}
    (kt : ¬ (s0 = 0) → mg_V z mX6_read jm 102 [(0, vR (some z.2.1))] [] (σ) E r)
    (kf : s0 = 0 → mg_V z mX6_read jm 113 [(0, vR (some z.2.1))] [] (σ) E r)
    : mg_V z mX6_read jm 110 [(0, vR (some z.2.1))] [vI s0] σ E r := by
  intro G h1 h2 h3
  exact wk_if_ne 102 dX6_read_110 (by decide) (fun h => ((kt h) G h1 h2 h3)) (fun h => ((kf h) G h1 h2 h3))
theorem mgread_113 {z : MZ} {jm : MG} {r : Nat} {σ : MS} {E : GH → Prop}
    (k : mg_V z mX6_read jm 115 [(0, vR (some z.2.1)), (1, vI (0 : Int32))] [] (σ) E r)
    : mg_V z mX6_read jm 113 [(0, vR (some z.2.1))] [] σ E r := by
  intro G h1 h2 h3
  refine wk_iconst (0 : Int32) dX6_read_113 (by decide) ?_
  refine wk_istore_n 1 dX6_read_114 rfl (Nat.le_of_ble_eq_true rfl) ?_
  exact (k G h1 h2 h3)
theorem mgread_115 {z : MZ} {jm : MG} {r : Nat} {σ : MS} {E : GH → Prop} {x1 : Int32}
    (kt : (σ.1 18) ≤ x1 → mg_V z mX6_read jm 139 [(0, vR (some z.2.1))] [] (σ) E r)
    (kf : ¬ ((σ.1 18) ≤ x1) → mg_V z mX6_read jm 123 [(0, vR (some z.2.1)), (1, vI x1)] [] (σ) E r)
    : mg_V z mX6_read jm 115 [(0, vR (some z.2.1)), (1, vI x1)] [] σ E r := by
  intro G h1 h2 h3
  refine wk_iload_n 1 dX6_read_115 rfl rfl ?_
  refine wk_aload_n 0 dX6_read_116 rfl rfl ?_
  refine mg_getI 18 h1 flX6_68 rfl dX6_read_117 ?_
  exact wk_icmp_ge 139 dX6_read_120 (by decide) (fun h => (wk_sub [(0, vR (some z.2.1))] ⟨rfl, trivial⟩ ((kt h) G h1 h2 h3))) (fun h => ((kf h) G h1 h2 h3))
theorem mgread_123 {z : MZ} {jm : MG} {r : Nat} {σ : MS} {E : GH → Prop} {x1 : Int32} {d' b' : Nat} {P : Option WV → MS → GH → Prop} {PX : Int32 → Int32 → MS → Prop}
    (hC : ml_C z mX6_around d' b' [vR (some z.2.1), vI x1] (σ) P PX)
    (hdp : d' + 1 ≤ jm.1)
    (hb : b' ≤ r)
    (kr : ∀ v σ', mg_V z mX6_read jm 128 [(0, vR (some z.2.1)), (1, vI x1)] (v.toList ++ []) σ' (P v σ') r)
    (kx : ∀ E9 q9 G9, ml_X z PX E9 q9 G9 → wk_T z.1 mX6_read (mg_j z jm) 125 [(0, vR (some z.2.1)), (1, vI x1)] G9 (r - b') E9 q9)
    (hr : r = jm.2.1 := by rfl)
    : mg_V z mX6_read jm 123 [(0, vR (some z.2.1)), (1, vI x1)] [] σ E r := by
  intro G h1 h2 h3
  refine wk_aload_n 0 dX6_read_123 rfl rfl ?_
  refine wk_iload_n 1 dX6_read_124 rfl rfl ?_
  exact wk_callV (hC G h1 (h2.fc hr)) rfl q3084 q3086 qs89 q122 q3087 mdX6_around (Nat.le_of_ble_eq_true rfl) ⟨by rw [h1.1.1]; decide, by rw [h1.1.1]; decide, by rw [h1.1.1]; rfl⟩ rfl rfl (Nat.le_of_ble_eq_true rfl) hdp hb dX6_read_125 (mg_ret hr kr) kx
theorem mgread_128 {z : MZ} {jm : MG} {r : Nat} {σ : MS} {E : GH → Prop} {x1 : Int32} {d' b' : Nat} {P : Option WV → MS → GH → Prop} {PX : Int32 → Int32 → MS → Prop}
    (hC : ml_C z mX6_countParts d' b' [vR (some z.2.1), vI x1] (σ) P PX)
    (hdp : d' + 1 ≤ jm.1)
    (hb : b' ≤ r)
    (kr : ∀ v σ', mg_V z mX6_read jm 133 [(0, vR (some z.2.1)), (1, vI x1)] (v.toList ++ []) σ' (P v σ') r)
    (kx : ∀ E9 q9 G9, ml_X z PX E9 q9 G9 → wk_T z.1 mX6_read (mg_j z jm) 130 [(0, vR (some z.2.1)), (1, vI x1)] G9 (r - b') E9 q9)
    (hr : r = jm.2.1 := by rfl)
    : mg_V z mX6_read jm 128 [(0, vR (some z.2.1)), (1, vI x1)] [] σ E r := by
  intro G h1 h2 h3
  refine wk_aload_n 0 dX6_read_128 rfl rfl ?_
  refine wk_iload_n 1 dX6_read_129 rfl rfl ?_
  exact wk_callV (hC G h1 (h2.fc hr)) rfl q3088 q3090 qs90 q122 q3091 mdX6_countParts (Nat.le_of_ble_eq_true rfl) ⟨by rw [h1.1.1]; decide, by rw [h1.1.1]; decide, by rw [h1.1.1]; rfl⟩ rfl rfl (Nat.le_of_ble_eq_true rfl) hdp hb dX6_read_130 (mg_ret hr kr) kx
theorem mgread_133 {z : MZ} {jm : MG} {r : Nat} {σ : MS} {E : GH → Prop} {x1 : Int32}
    (k : mg_V z mX6_read jm 115 [(0, vR (some z.2.1)), (1, vI (x1 + (1 : Int32)))] [] (σ) E r)
    : mg_V z mX6_read jm 133 [(0, vR (some z.2.1)), (1, vI x1)] [] σ E r := by
  intro G h1 h2 h3
  refine wk_iincC (1 : Int32) dX6_read_133 rfl (by decide) (Nat.le_of_ble_eq_true rfl) ?_
  exact wk_goto 115 dX6_read_136 (by decide) (k G h1 h2 h3)
theorem mgread_139 {z : MZ} {jm : MG} {r : Nat} {σ : MS} {E : GH → Prop}
    (hi1 : vp_in ((σ.1 18) - (1 : Int32)) 60)
    (kt : (3000 : Int32) < (σ.2 48 ((σ.1 18) - (1 : Int32)).toNatClampNeg) → mg_V z mX6_read jm 178 [(0, vR (some z.2.1))] [] (σ) E r)
    (kf : ¬ ((3000 : Int32) < (σ.2 48 ((σ.1 18) - (1 : Int32)).toNatClampNeg)) → mg_V z mX6_read jm 156 [(0, vR (some z.2.1))] [] (σ) E r)
    : mg_V z mX6_read jm 139 [(0, vR (some z.2.1))] [] σ E r := by
  intro G h1 h2 h3
  refine wk_aload_n 0 dX6_read_139 rfl rfl ?_
  refine mg_getA 48 h1 flX6_160 rfl (by decide) dX6_read_140 ?_
  refine wk_aload_n 0 dX6_read_143 rfl rfl ?_
  refine mg_getI 18 h1 flX6_68 rfl dX6_read_144 ?_
  refine wk_iconst (1 : Int32) dX6_read_147 (by decide) ?_
  refine wk_isub dX6_read_148 ?_
  refine mg_iald 48 h1 rfl hi1 dX6_read_149 ?_
  refine wk_sipush (3000 : Int32) dX6_read_150 (by decide) ?_
  exact wk_icmp_gt 178 dX6_read_153 (by decide) (fun h => ((kt h) G h1 h2 h3)) (fun h => ((kf h) G h1 h2 h3))
theorem mgread_156 {z : MZ} {jm : MG} {r : Nat} {σ : MS} {E : GH → Prop}
    (hi1 : vp_in ((σ.1 18) - (1 : Int32)) 60)
    (kt : ((σ.1 55) + (σ.2 48 ((σ.1 18) - (1 : Int32)).toNatClampNeg)) ≤ (30000 : Int32) → mg_V z mX6_read jm 191 [(0, vR (some z.2.1))] [] (σ) E r)
    (kf : ¬ (((σ.1 55) + (σ.2 48 ((σ.1 18) - (1 : Int32)).toNatClampNeg)) ≤ (30000 : Int32)) → mg_V z mX6_read jm 178 [(0, vR (some z.2.1))] [] (σ) E r)
    : mg_V z mX6_read jm 156 [(0, vR (some z.2.1))] [] σ E r := by
  intro G h1 h2 h3
  refine wk_aload_n 0 dX6_read_156 rfl rfl ?_
  refine mg_getI 55 h1 flX6_181 rfl dX6_read_157 ?_
  refine wk_aload_n 0 dX6_read_160 rfl rfl ?_
  refine mg_getA 48 h1 flX6_160 rfl (by decide) dX6_read_161 ?_
  refine wk_aload_n 0 dX6_read_164 rfl rfl ?_
  refine mg_getI 18 h1 flX6_68 rfl dX6_read_165 ?_
  refine wk_iconst (1 : Int32) dX6_read_168 (by decide) ?_
  refine wk_isub dX6_read_169 ?_
  refine mg_iald 48 h1 rfl hi1 dX6_read_170 ?_
  refine wk_iadd dX6_read_171 ?_
  refine wk_sipush (30000 : Int32) dX6_read_172 (by decide) ?_
  exact wk_icmp_le 191 dX6_read_175 (by decide) (fun h => ((kt h) G h1 h2 h3)) (fun h => ((kf h) G h1 h2 h3))
theorem mgread_178 {z : MZ} {jm : MG} {r : Nat} {σ : MS} {E : GH → Prop}
    (hr : 1 ≤ r)
    (k : ∀ q, mg_V z mX6_read jm 181 [(0, vR (some z.2.1))] [vR (some q)] (σ) (fun G => hp_kd G q = 4 ∧ hp_A z.1 q ∧ ¬ ml_own z q ∧ hp_kd z.2.2.2 q = 0) (r - 1))
    : mg_V z mX6_read jm 178 [(0, vR (some z.2.1))] [] σ E r := by
  intro G h1 h2 h3
  refine wk_new 4 8 ⟨by decide, by decide, q2857, q2900, q163, rfl⟩ hr dX6_read_178 (fun q hq hA => ?_)
  have hno := h1.fresh hq
  exact (k q _ (h1.other hno hp_nw_ne) (h2.new hr hq) ⟨by rw [hp_kd_nw, if_pos rfl], hA, hno, Decidable.byContradiction fun z0 => z0 (by rw [← (h2.1 q z0 hno).1]; exact hq)⟩)
theorem mgread_181 {z : MZ} {jm : MG} {r : Nat} {σ : MS} {E : GH → Prop} {sa0 : Option Nat} {d' b' : Nat} {q1 : Nat}
    (e1 : sa0 = some q1)
    (hC : ∀ G, hp_kd G q1 = 4 → hp_A z.1 q1 → wk_C z.1 mX23_init d' b' [vR (some q1), vI (3 : Int32), vI (σ.1 1)] G (fun v G9 => v = none ∧ hp_kd G9 q1 = 4 ∧ hp_i G9 q1 6 = (3 : Int32) ∧ hp_i G9 q1 7 = (σ.1 1) ∧ ∀ b, b ≠ q1 → hp_kd G9 b = hp_kd G b ∧ hp_ln G9 b = hp_ln G b ∧ hp_i G9 b = hp_i G b ∧ hp_r G9 b = hp_r G b ∧ hp_l G9 b = hp_l G b) (fun _ _ _ => False))
    (hq : ∀ G, E G → hp_kd G q1 = 4 ∧ hp_A z.1 q1 ∧ ¬ ml_own z q1 ∧ hp_kd z.2.2.2 q1 = 0)
    (hdp : d' + 1 ≤ jm.1)
    (hb : b' ≤ r)
    (k : mg_V z mX6_read jm 190 [(0, vR (some z.2.1))] [vR sa0] (σ) (fun G => hp_kd G q1 = 4 ∧ hp_i G q1 6 = (3 : Int32) ∧ hp_i G q1 7 = (σ.1 1)) (r - b'))
    (hlt : r < jm.2.1 := by first | exact Nat.le_of_ble_eq_true rfl | omega)
    : mg_V z mX6_read jm 181 [(0, vR (some z.2.1))] [vR sa0] σ E r := by
  intro G h1 h2 h3
  refine wk_dup dX6_read_181 rfl ?_
  refine wk_iconst (3 : Int32) dX6_read_182 (by decide) ?_
  refine wk_aload_n 0 dX6_read_183 rfl rfl ?_
  refine mg_getI 1 h1 flX6_14 rfl dX6_read_184 ?_
  refine wk_eAt 2 e1 rfl ?_
  obtain ⟨w1, w2, w3, w4⟩ := hq G h3
  refine wk_callI (hC G w1 w2) rfl rfl rfl q2908 q2909 q163 q2910 mdX23_init (Nat.le_of_ble_eq_true rfl) rfl rfl (Nat.le_of_ble_eq_true rfl) hdp hb dX6_read_187 ?_ (fun _ _ _ h => absurd h id)
  rintro v G9 ⟨rfl, y1, y2, y3, y4⟩
  exact (k G9 (h1.other w3 y4) (h2.init w4 y4 hlt) ⟨y1, y2, y3⟩)
theorem mgread_191 {z : MZ} {jm : MG} {r : Nat} {σ : MS} {E : GH → Prop} {d' b' : Nat} {P : Option WV → MS → GH → Prop} {PX : Int32 → Int32 → MS → Prop}
    (hC : ml_C z mX6_putIn d' b' [vR (some z.2.1), vI ((σ.1 18) - (1 : Int32)), vI (-1 : Int32), vI (-1 : Int32)] (σ) P PX)
    (hdp : d' + 1 ≤ jm.1)
    (hb : b' ≤ r)
    (kr : ∀ v σ', mg_V z mX6_read jm 203 [(0, vR (some z.2.1))] (v.toList ++ []) σ' (P v σ') r)
    (kx : ∀ E9 q9 G9, ml_X z PX E9 q9 G9 → wk_T z.1 mX6_read (mg_j z jm) 200 [(0, vR (some z.2.1))] G9 (r - b') E9 q9)
    (hr : r = jm.2.1 := by rfl)
    : mg_V z mX6_read jm 191 [(0, vR (some z.2.1))] [] σ E r := by
  intro G h1 h2 h3
  refine wk_aload_n 0 dX6_read_191 rfl rfl ?_
  refine wk_aload_n 0 dX6_read_192 rfl rfl ?_
  refine mg_getI 18 h1 flX6_68 rfl dX6_read_193 ?_
  refine wk_iconst (1 : Int32) dX6_read_196 (by decide) ?_
  refine wk_isub dX6_read_197 ?_
  refine wk_iconst (-1 : Int32) dX6_read_198 (by decide) ?_
  refine wk_iconst (-1 : Int32) dX6_read_199 (by decide) ?_
  exact wk_callV (hC G h1 (h2.fc hr)) rfl q3094 q3096 qs91 q122 q3097 mdX6_putIn (Nat.le_of_ble_eq_true rfl) ⟨by rw [h1.1.1]; decide, by rw [h1.1.1]; decide, by rw [h1.1.1]; rfl⟩ rfl rfl (Nat.le_of_ble_eq_true rfl) hdp hb dX6_read_200 (mg_ret hr kr) kx
theorem mgread_203 {z : MZ} {jm : MG} {r : Nat} {σ : MS} {E : GH → Prop} {s0 : Int32}
    (hi1 : vp_in ((σ.1 18) - (1 : Int32)) 60)
    (k : mg_V z mX6_read jm 226 [(0, vR (some z.2.1)), (1, vI (0 : Int32))] [] (ml_sf (σ) 55 ((σ.1 55) + (σ.2 48 ((σ.1 18) - (1 : Int32)).toNatClampNeg))) (fun _ => True) r)
    : mg_V z mX6_read jm 203 [(0, vR (some z.2.1))] [vI s0] σ E r := by
  intro G h1 h2 h3
  refine wk_pop dX6_read_203 rfl ?_
  refine wk_aload_n 0 dX6_read_204 rfl rfl ?_
  refine wk_dup dX6_read_205 rfl ?_
  refine mg_getI 55 h1 flX6_181 rfl dX6_read_206 ?_
  refine wk_aload_n 0 dX6_read_209 rfl rfl ?_
  refine mg_getA 48 h1 flX6_160 rfl (by decide) dX6_read_210 ?_
  refine wk_aload_n 0 dX6_read_213 rfl rfl ?_
  refine mg_getI 18 h1 flX6_68 rfl dX6_read_214 ?_
  refine wk_iconst (1 : Int32) dX6_read_217 (by decide) ?_
  refine wk_isub dX6_read_218 ?_
  refine mg_iald 48 h1 rfl hi1 dX6_read_219 ?_
  refine wk_iadd dX6_read_220 ?_
  refine mg_putI 55 h1 h2 flX6_181 rfl (Or.inl rfl) ⟨rfl, rfl⟩ rfl dX6_read_221 (fun G h1 h2 => ?_)
  refine wk_iconst (0 : Int32) dX6_read_224 (by decide) ?_
  refine wk_istore_n 1 dX6_read_225 rfl (Nat.le_of_ble_eq_true rfl) ?_
  exact (k G h1 h2 trivial)
theorem mgread_226 {z : MZ} {jm : MG} {r : Nat} {σ : MS} {E : GH → Prop} {x1 : Int32}
    (kt : (σ.1 51) ≤ x1 → mg_V z mX6_read jm 245 [(0, vR (some z.2.1))] [] (σ) E r)
    (kf : ¬ ((σ.1 51) ≤ x1) → mg_V z mX6_read jm 234 [(0, vR (some z.2.1)), (1, vI x1)] [] (σ) E r)
    : mg_V z mX6_read jm 226 [(0, vR (some z.2.1)), (1, vI x1)] [] σ E r := by
  intro G h1 h2 h3
  refine wk_iload_n 1 dX6_read_226 rfl rfl ?_
  refine wk_aload_n 0 dX6_read_227 rfl rfl ?_
  refine mg_getI 51 h1 flX6_169 rfl dX6_read_228 ?_
  exact wk_icmp_ge 245 dX6_read_231 (by decide) (fun h => (wk_sub [(0, vR (some z.2.1))] ⟨rfl, trivial⟩ ((kt h) G h1 h2 h3))) (fun h => ((kf h) G h1 h2 h3))
theorem mgread_234 {z : MZ} {jm : MG} {r : Nat} {σ : MS} {E : GH → Prop} {x1 : Int32} {d' b' : Nat} {P : Option WV → MS → GH → Prop} {PX : Int32 → Int32 → MS → Prop}
    (hC : ml_C z mX6_causes d' b' [vR (some z.2.1), vI x1] (σ) P PX)
    (hdp : d' + 1 ≤ jm.1)
    (hb : b' ≤ r)
    (kr : ∀ v σ', mg_V z mX6_read jm 239 [(0, vR (some z.2.1)), (1, vI x1)] (v.toList ++ []) σ' (P v σ') r)
    (kx : ∀ E9 q9 G9, ml_X z PX E9 q9 G9 → wk_T z.1 mX6_read (mg_j z jm) 236 [(0, vR (some z.2.1)), (1, vI x1)] G9 (r - b') E9 q9)
    (hr : r = jm.2.1 := by rfl)
    : mg_V z mX6_read jm 234 [(0, vR (some z.2.1)), (1, vI x1)] [] σ E r := by
  intro G h1 h2 h3
  refine wk_aload_n 0 dX6_read_234 rfl rfl ?_
  refine wk_iload_n 1 dX6_read_235 rfl rfl ?_
  exact wk_callV (hC G h1 (h2.fc hr)) rfl q3098 q3100 qs92 q122 q3101 mdX6_causes (Nat.le_of_ble_eq_true rfl) ⟨by rw [h1.1.1]; decide, by rw [h1.1.1]; decide, by rw [h1.1.1]; rfl⟩ rfl rfl (Nat.le_of_ble_eq_true rfl) hdp hb dX6_read_236 (mg_ret hr kr) kx
theorem mgread_239 {z : MZ} {jm : MG} {r : Nat} {σ : MS} {E : GH → Prop} {x1 : Int32}
    (k : mg_V z mX6_read jm 226 [(0, vR (some z.2.1)), (1, vI (x1 + (1 : Int32)))] [] (σ) E r)
    : mg_V z mX6_read jm 239 [(0, vR (some z.2.1)), (1, vI x1)] [] σ E r := by
  intro G h1 h2 h3
  refine wk_iincC (1 : Int32) dX6_read_239 rfl (by decide) (Nat.le_of_ble_eq_true rfl) ?_
  exact wk_goto 226 dX6_read_242 (by decide) (k G h1 h2 h3)
theorem mgread_245 {z : MZ} {jm : MG} {r : Nat} {σ : MS} {E : GH → Prop} {d' b' : Nat} {P : Option WV → MS → GH → Prop} {PX : Int32 → Int32 → MS → Prop}
    (hi1 : vp_in (σ.1 51) 6101)
    (hC : ml_C z mX6_ordered d' b' [vR (some z.2.1)] (ml_sa (σ) 65 (σ.1 51).toNatClampNeg (σ.1 67)) P PX)
    (hdp : d' + 1 ≤ jm.1)
    (hb : b' ≤ r)
    (kr : ∀ v σ', mg_V z mX6_read jm 262 [(0, vR (some z.2.1))] (v.toList ++ []) σ' (P v σ') r)
    (kx : ∀ E9 q9 G9, ml_X z PX E9 q9 G9 → wk_T z.1 mX6_read (mg_j z jm) 259 [(0, vR (some z.2.1))] G9 (r - b') E9 q9)
    (hr : r = jm.2.1 := by rfl)
    : mg_V z mX6_read jm 245 [(0, vR (some z.2.1))] [] σ E r := by
  intro G h1 h2 h3
  refine wk_aload_n 0 dX6_read_245 rfl rfl ?_
  refine mg_getA 65 h1 flX6_211 rfl (by decide) dX6_read_246 ?_
  refine wk_aload_n 0 dX6_read_249 rfl rfl ?_
  refine mg_getI 51 h1 flX6_169 rfl dX6_read_250 ?_
  refine wk_aload_n 0 dX6_read_253 rfl rfl ?_
  refine mg_getI 67 h1 flX6_218 rfl dX6_read_254 ?_
  refine mg_iast 65 h1 h2 rfl hi1 dX6_read_257 (fun G h1 h2 => ?_)
  refine wk_aload_n 0 dX6_read_258 rfl rfl ?_
  exact wk_callV (hC G h1 (h2.fc hr)) rfl q3126 q3128 qs99 q122 q3129 mdX6_ordered (Nat.le_of_ble_eq_true rfl) ⟨by rw [h1.1.1]; decide, by rw [h1.1.1]; decide, by rw [h1.1.1]; rfl⟩ rfl rfl (Nat.le_of_ble_eq_true rfl) hdp hb dX6_read_259 (mg_ret hr kr) kx
theorem mgread_262 {z : MZ} {jm : MG} {r : Nat} {σ : MS} {E : GH → Prop}
    (k : mg_V z mX6_read jm 292 [(0, vR (some z.2.1))] [] (ml_sf (σ) 49 ((σ.1 18) - (1 : Int32))) (fun _ => True) r)
    : mg_V z mX6_read jm 262 [(0, vR (some z.2.1))] [] σ E r := by
  intro G h1 h2 h3
  refine wk_aload_n 0 dX6_read_262 rfl rfl ?_
  refine wk_aload_n 0 dX6_read_263 rfl rfl ?_
  refine mg_getI 18 h1 flX6_68 rfl dX6_read_264 ?_
  refine wk_iconst (1 : Int32) dX6_read_267 (by decide) ?_
  refine wk_isub dX6_read_268 ?_
  refine mg_putI 49 h1 h2 flX6_163 rfl (Or.inl rfl) ⟨rfl, rfl⟩ rfl dX6_read_269 (fun G h1 h2 => ?_)
  exact wk_goto 292 dX6_read_272 (by decide) (k G h1 h2 trivial)
