/-! THE COMPONENT: one node more -/
set_option maxRecDepth 100000
theorem mem_cls {S : MS} {lo hi x : Nat} (h : x ∈ cls S lo hi) : lo ≤ x ∧ x < hi ∧ S.2 32 x = 3 := by
  unfold cls at h
  rw [List.mem_filter, List.mem_range'_1] at h
  have := of_decide_eq_true h.2
  exact ⟨h.1.1, by omega, this⟩
theorem sT_cg {TP TP' : Nat → Nat} {S : MS} {l : List Nat} {i : Nat} (h : ∀ x ∈ l, TP' (jg_n (S.2 33 x)) = TP (jg_n (S.2 33 x))) : sT TP' S l i = sT TP S l i := by
  unfold sT
  rw [List.map_congr_left (fun x hx => h x (List.mem_of_mem_take hx))]
/-- the facts of all nodes, after one more -/
theorem nfs.step {T : Nat → Int32} {n f c e1 c1 : Nat} {S S1 : MS} {A Q P L : Nat → Nat} (h1 : nd T n f c S = some (.inr (e1, c1, S1))) (hI : nd_I n c S) (hT : S.2 0 = T) (hF : nfs T n S A Q P L) :
    nfs T n S1 (hp_u1 A (pr_N S + 1) (pr_v S1)) (hp_u1 Q (pr_N S + 1) (pr_k S1)) (hp_u1 P (pr_N S + 1) (pr_p S1)) (hp_u1 L (pr_N S + 1) (pr_l S1)) ∧ nk (pr_N S) (pr_v S) (pr_k S) (pr_l S) (pr_p S) S S1 ∧ (pr_v S ≤ pr_v S1 ∧ pr_k S ≤ pr_k S1 ∧ pr_p S ≤ pr_p S1 ∧ pr_l S ≤ pr_l S1) ∧ nd_I n c1 S1 ∧ pr_N S1 = pr_N S + 1 := by
  obtain ⟨a1, a2, a3, a4, a5⟩ := nd_ok h1 hI hT
  obtain ⟨⟨f1, f2, f3, f4⟩, f5, f6, f7⟩ := hF
  obtain ⟨⟨i, o, g1⟩, g2, g3, g4, g5, g6, g7, g8⟩ := nd_nf h1 hI hT f7 f6
  have mono : ∀ m f, f + m = pr_N S → A f ≤ pr_v S ∧ Q f ≤ pr_k S ∧ P f ≤ pr_p S ∧ L f ≤ pr_l S := by
    intro m
    induction m with
    | zero => intro f hf; rw [Nat.add_zero] at hf; subst hf; omega
    | succ m im =>
      intro f hf
      have := im (f + 1) (by omega)
      obtain ⟨i9, o9, g9⟩ := f5 f (by omega)
      obtain ⟨-, ⟨b1, b2, b3, b4, b5, b6, b7, b8, b9, b10, b11, b12, b13, b14⟩, -⟩ := g9
      omega
  have hN60 : pr_N S ≤ 60 := by have := hI.1.1.N.2.1; omega
  refine ⟨⟨⟨by rw [a5]; exact if_pos rfl, by rw [a5]; exact if_pos rfl, by rw [a5]; exact if_pos rfl, by rw [a5]; exact if_pos rfl⟩, fun x hx => ?_, fun _ => by rw [a5]; exact g3, g4⟩, g2, ⟨g5, g6, g7, g8⟩, a2, a5⟩
  rw [a5] at hx
  show ∃ i o, nf T n S1 x (if x = pr_N S + 1 then pr_v S1 else A x) (if x + 1 = pr_N S + 1 then pr_v S1 else A (x + 1)) i o (if x = pr_N S + 1 then pr_k S1 else Q x) (if x + 1 = pr_N S + 1 then pr_k S1 else Q (x + 1)) (if x = pr_N S + 1 then pr_p S1 else P x) (if x + 1 = pr_N S + 1 then pr_p S1 else P (x + 1)) (if x = pr_N S + 1 then pr_l S1 else L x) (if x + 1 = pr_N S + 1 then pr_l S1 else L (x + 1))
  have hx1 : ∀ u v : Nat, (if x = pr_N S + 1 then u else v) = v := fun u v => if_neg (by omega)
  rw [hx1, hx1, hx1, hx1]
  rcases Nat.lt_or_ge x (pr_N S) with q | q
  · have hx2 : ∀ u v : Nat, (if x + 1 = pr_N S + 1 then u else v) = v := fun u v => if_neg (by omega)
    rw [hx2, hx2, hx2, hx2]
    obtain ⟨i9, o9, g9⟩ := f5 x q
    have := mono (pr_N S - (x + 1)) (x + 1) (by omega)
    exact ⟨i9, o9, g9.keep g2 hN60 q this.1 this.2.1 this.2.2.2 this.2.2.1⟩
  · have ex : x = pr_N S := by omega
    subst ex
    rw [if_pos rfl, if_pos rfl, if_pos rfl, if_pos rfl, f1, f2, f3, f4]
    exact ⟨i, o, g1⟩
/-- another node -/
abbrev qA (q : PZ) (N t : Nat) : PZ := (q.1, q.2.1, hp_u1 (qN q) N t, q.2.2.2)
section
variable {q : PZ} {S S' S7 : MS} {G G' : GH} {TP TC TA : Nat → Nat} {own : Nat → Prop} {Ln cn cn' hN c c' t : Nat}
theorem qA_N {N t g : Nat} (h : g < N) : qN (qA q N t) g = qN q g := if_neg (by omega)
theorem ndZ.old {d : ND} {f N a a' k0 k1 l' lo hi v k l p x y z : Nat} (h : ndZ q S d TP TC TA f a a' k0 k1 l' lo hi G) (hfN : f < N) (hf : cf own G G') (ho : ∀ y, hp_kd G y ≠ 0 → own y → ¬ fzc G y) (hag : ag v k l p S S') (hb : a' ≤ v ∧ k1 ≤ k ∧ l' ≤ l ∧ hi ≤ p) (h13 : S'.2 13 f = S.2 13 f) (h14 : S'.2 14 f = S.2 14 f) :
    ndZ (qA q N t) S' d (hp_u1 TP N x) (hp_u1 TC N y) (hp_u1 TA N z) f a a' k0 k1 l' lo hi G' := by
  obtain ⟨⟨d1, d2⟩, hz, ha, ⟨t1, t2, t3⟩, hfc, hkq, hcal⟩ := h
  have hs : ∀ (U : Nat → Nat) (u : Nat), sT (hp_u1 U N u) d.2.1 (cls d.2.1 lo hi) (cls d.2.1 lo hi).length = sT U d.2.1 (cls d.2.1 lo hi) (cls d.2.1 lo hi).length := fun U u => sT_cg (fun x hx => by
    obtain ⟨m1, m2, m3⟩ := mem_cls hx
    exact if_neg (by have := hcal x m1 m2 m3; omega))
  refine ⟨⟨d1, fun g hg => (d2 g hg).trans (qA_N (by omega)).symm⟩, ?_, ⟨fun x j hx hj => (hag.1 x j hx (by omega)).trans (ha.1 x j hx hj), fun x j hx hj => (hag.2.1 x j hx (by omega)).trans (ha.2.1 x j hx hj), fun j hj => (hag.2.2.1 j (by omega)).trans (ha.2.2.1 j hj), fun j hj => (hag.2.2.2.1 j (by omega)).trans (ha.2.2.2.1 j hj), fun x e h1 h3 he => (hag.2.2.2.2 x e h1 h3 (by omega)).trans (ha.2.2.2.2 x e h1 h3 he)⟩, ⟨?_, ?_, ?_⟩, hfc, hkq, hcal⟩
  · rw [h13, h14, qA_N hfN]
    exact hz.fr hf ho
  · rw [hs, ← t1]; exact if_neg (by omega)
  · rw [hs, ← t2]; exact if_neg (by omega)
  · rw [hs, ← t3]; exact if_neg (by omega)
theorem rdZ.add {d : Nat → ND} {A P Qn L : Nat → Nat} {f e i o : Nat} {q6 : PZ} {X Q : Nat → Nat} {F : Nat → Int32} {kq : Nat → Nat} (h : rdZ q c S d TP TC TA A P Qn L Ln cn hN G) (hnd : nd (rz_T q.1) (rz_n q.1) f c S = some (.inr (e, c', S'))) (hS' : S' = ml_sf S7 18 (nI (pr_N S7 + 1))) (e7 : pr_a S7 = pr_v S) (hf : cf own G G') (ho : ∀ y, hp_kd G y ≠ 0 → own y → ¬ fzc G y) (hns : nsI (qA q (pr_N S) t) c' S' G' Ln cn' hN) (hcn : cn' ≤ 100)
    (hz : nz q6 S7 X Q F kq (pr_a S7) (pr_v S7) i o (pr_p S) (pr_p S7) (pr_k S) (pr_k S7) t G') (e6 : q6.1 = q.1 ∧ ∀ g, qN q6 g = qN q g) (hi : S7.2 13 (pr_N S) = nI i ∧ S7.2 14 (pr_N S) = nI o ∧ i ≤ 6000 ∧ o ≤ 6000)
    (hsum : hp_i G' t 9 = nI (min (pr_k S7 - pr_k S + (pr_p S7 - pr_p S) + sT TP S7 (cls S7 (pr_p S) (pr_p S7)) (cls S7 (pr_p S) (pr_p S7)).length) 1000000) ∧ hp_i G' t 10 = nI (min (nx_t nx_s (S7.2 32) (pr_p S) (pr_p S7 - pr_p S) + sT TC S7 (cls S7 (pr_p S) (pr_p S7)) (cls S7 (pr_p S) (pr_p S7)).length) 1000000) ∧ hp_i G' t 11 = nI (min (pr_v S7 - pr_a S7 + sT TA S7 (cls S7 (pr_p S) (pr_p S7)) (cls S7 (pr_p S) (pr_p S7)).length) 1000000))
    (hfc : ∀ k, pr_k S ≤ k → k < pr_k S7 → fcA S7 F (pr_a S7) k) (hkq : ∀ k, pr_k S ≤ k → k < pr_k S7 → ∀ x, jg_n (S7.2 29 k) ≤ x → x ≤ jg_n (S7.2 27 k) → kq x = k) (hcal : ∀ x, pr_p S ≤ x → x < pr_p S7 → S7.2 32 x = 3 → jg_n (S7.2 33 x) < pr_N S) :
    ∃ TP' TC' TA' A' P' Qn' L', rdZ (qA q (pr_N S) t) c' S' (hp_u1 d (pr_N S) (q6, S7, X, Q, F, kq)) TP' TC' TA' A' P' Qn' L' Ln cn' hN (nrmG G') := by
  obtain ⟨h1, h2, ⟨h3, h4⟩, h5, ⟨h6, h7⟩, h8⟩ := h
  obtain ⟨s1, s2, ⟨s3, s4, s5, s6⟩, s7, s8⟩ := hnd |> fun u => nfs.step u h3 h1.2.2.1 h4
  have hcfn : cf own G (nrmG G') := hf.nrm h2
  have ev : pr_v S' = pr_v S7 := by rw [hS']; rfl
  have ek : pr_k S' = pr_k S7 := by rw [hS']; rfl
  have ep : pr_p S' = pr_p S7 := by rw [hS']; rfl
  have el : pr_l S' = pr_l S7 := by rw [hS']; rfl
  have e2 : S'.2 = S7.2 := by rw [hS']; rfl
  have hs : ∀ (U : Nat → Nat) (u : Nat), sT (hp_u1 U (pr_N S) u) S7 (cls S7 (pr_p S) (pr_p S7)) (cls S7 (pr_p S) (pr_p S7)).length = sT U S7 (cls S7 (pr_p S) (pr_p S7)) (cls S7 (pr_p S) (pr_p S7)).length := fun U u => sT_cg (fun x hx => by
    obtain ⟨m1, m2, m3⟩ := mem_cls hx
    exact if_neg (by have := hcal x m1 m2 m3; omega))
  obtain ⟨⟨fA, fQ, fP, fL⟩, -⟩ := id h4
  refine ⟨hp_u1 TP (pr_N S) (pr_k S7 - pr_k S + (pr_p S7 - pr_p S) + sT TP S7 (cls S7 (pr_p S) (pr_p S7)) (cls S7 (pr_p S) (pr_p S7)).length), hp_u1 TC (pr_N S) (nx_t nx_s (S7.2 32) (pr_p S) (pr_p S7 - pr_p S) + sT TC S7 (cls S7 (pr_p S) (pr_p S7)) (cls S7 (pr_p S) (pr_p S7)).length), hp_u1 TA (pr_N S) (pr_v S7 - pr_a S7 + sT TA S7 (cls S7 (pr_p S) (pr_p S7)) (cls S7 (pr_p S) (pr_p S7)).length), hp_u1 A (pr_N S + 1) (pr_v S'), hp_u1 P (pr_N S + 1) (pr_p S'), hp_u1 Qn (pr_N S + 1) (pr_k S'), hp_u1 L (pr_N S + 1) (pr_l S'), hns.nrm, sn_nrm, ⟨s7, s1⟩, fun g hg => ?_, ⟨hcn, fun f hf' => ?_⟩, fun f hf' => ?_⟩
  · rw [s8] at hg
    rcases Nat.lt_or_ge g (pr_N S) with u | u
    · have hT := h5.fr hcfn (fun g hg w => ho _ (by rw [(h5 g hg).1]; decide) w (Or.inl (Or.inl (by rw [(h5 g hg).1]; exact ⟨by decide, by decide⟩)))) g u
      rw [qA_N u]
      show _ ∧ hp_i _ _ 9 = nI (min (if g = pr_N S then _ else TP g) 1000000) ∧ hp_i _ _ 10 = nI (min (if g = pr_N S then _ else TC g) 1000000) ∧ hp_i _ _ 11 = nI (min (if g = pr_N S then _ else TA g) 1000000)
      rw [if_neg (by omega), if_neg (by omega), if_neg (by omega)]
      exact hT
    · have eg : g = pr_N S := by omega
      subst eg
      rw [show qN (qA q (pr_N S) t) (pr_N S) = t from if_pos rfl]
      refine ⟨hz.1.1, ?_, ?_, ?_⟩
      · rw [show hp_u1 TP (pr_N S) _ (pr_N S) = _ from if_pos rfl]; exact hsum.1
      · rw [show hp_u1 TC (pr_N S) _ (pr_N S) = _ from if_pos rfl]; exact hsum.2.1
      · rw [show hp_u1 TA (pr_N S) _ (pr_N S) = _ from if_pos rfl]; exact hsum.2.2
  · rw [s8] at hf'
    show (if f + 1 = pr_N S + 1 then pr_v S' else A (f + 1)) ≤ pr_v S' ∧ (if f + 1 = pr_N S + 1 then pr_k S' else Qn (f + 1)) ≤ pr_k S' ∧ (if f + 1 = pr_N S + 1 then pr_l S' else L (f + 1)) ≤ pr_l S' ∧ (if f + 1 = pr_N S + 1 then pr_p S' else P (f + 1)) ≤ pr_p S'
    by_cases u : f = pr_N S
    · rw [if_pos (by omega), if_pos (by omega), if_pos (by omega), if_pos (by omega)]
      omega
    · rw [if_neg (by omega), if_neg (by omega), if_neg (by omega), if_neg (by omega)]
      have := h7 f (by omega)
      omega
  · rw [s8] at hf'
    show ndZ _ _ (if f = pr_N S then (q6, S7, X, Q, F, kq) else d f) _ _ _ f (if f = pr_N S + 1 then pr_v S' else A f) (if f + 1 = pr_N S + 1 then pr_v S' else A (f + 1)) (if f = pr_N S + 1 then pr_k S' else Qn f) (if f + 1 = pr_N S + 1 then pr_k S' else Qn (f + 1)) (if f + 1 = pr_N S + 1 then pr_l S' else L (f + 1)) (if f = pr_N S + 1 then pr_p S' else P f) (if f + 1 = pr_N S + 1 then pr_p S' else P (f + 1)) _
    have hx1 : ∀ u v : Nat, (if f = pr_N S + 1 then u else v) = v := fun u v => if_neg (by omega)
    rw [hx1, hx1, hx1]
    rcases Nat.lt_or_ge f (pr_N S) with u | u
    · have hx2 : ∀ u v : Nat, (if f + 1 = pr_N S + 1 then u else v) = v := fun u v => if_neg (by omega)
      rw [hx2, hx2, hx2, hx2, if_neg (by omega)]
      have hb := h7 f u
      exact (h8 f u).old u hcfn ho (ag.of s2) ⟨hb.1, hb.2.1, hb.2.2.1, hb.2.2.2⟩ (s2.1 13 f (by omega) u) (s2.1 14 f (by omega) u)
    · have eg : f = pr_N S := by omega
      subst eg
      rw [if_pos rfl, if_pos rfl, if_pos rfl, if_pos rfl, if_pos rfl, fA, fQ, fP]
      have j13 : jg_n (S'.2 13 (pr_N S)) = i := by rw [e2, hi.1]; exact nI_clamp (by omega)
      have j14 : jg_n (S'.2 14 (pr_N S)) = o := by rw [e2, hi.2.1]; exact nI_clamp (by omega)
      refine ⟨⟨e6.1, fun g hg => (e6.2 g).trans (qA_N hg).symm⟩, ?_, ?_, ⟨?_, ?_, ?_⟩, ?_, ?_, ?_⟩
      · rw [j13, j14, show qN (qA q (pr_N S) t) (pr_N S) = t from if_pos rfl, ← e7, ev, ep, ek]
        exact hz.nrm
      · exact ⟨fun x j _ _ => by rw [e2], fun x j _ _ => by rw [e2], fun j _ => by rw [e2], fun j _ => by rw [e2], fun x e _ _ _ => by rw [e2]⟩
      · show hp_u1 TP (pr_N S) _ (pr_N S) = pr_k S' - pr_k S + (pr_p S' - pr_p S) + sT _ S7 (cls S7 (pr_p S) (pr_p S')) (cls S7 (pr_p S) (pr_p S')).length
        rw [ep, ek, hs, show hp_u1 TP (pr_N S) _ (pr_N S) = _ from if_pos rfl]
      · show hp_u1 TC (pr_N S) _ (pr_N S) = nx_t nx_s (S7.2 32) (pr_p S) (pr_p S' - pr_p S) + sT _ S7 (cls S7 (pr_p S) (pr_p S')) (cls S7 (pr_p S) (pr_p S')).length
        rw [ep, hs, show hp_u1 TC (pr_N S) _ (pr_N S) = _ from if_pos rfl]
      · show hp_u1 TA (pr_N S) _ (pr_N S) = pr_v S' - pr_v S + sT _ S7 (cls S7 (pr_p S) (pr_p S')) (cls S7 (pr_p S) (pr_p S')).length
        rw [ep, ev, hs, ← e7, show hp_u1 TA (pr_N S) _ (pr_N S) = _ from if_pos rfl]
      · rw [ek, ← e7]
        exact hfc
      · rw [ek]
        exact hkq
      · rw [ep]
        exact hcal
end
