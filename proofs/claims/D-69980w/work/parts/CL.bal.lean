/-! balanceInsertion (tools/gen_bal.py) -/
set_option maxRecDepth 100000
/-- what it leaves: a tree of the same nodes in the same order -/
def bi_P (G : GH) (N : List Nat) (ps : Nat → Nat) (v : Option WV) (G' : GH) : Prop := ∃ r' lo' hi', v = some (vR (some r')) ∧ tr G' N r' ps lo' hi' ∧ rk N G G'
section
variable {w : WD} {d : Nat} {G : GH} {N : List Nat} {r : Nat} {ps lo hi : Nat → Nat}
theorem bi_end5 {G0 : GH} {R1 y xp g : Nat} (hT : tr G N R1 ps lo hi) (hrk : rk N G0 G) (hA : ∀ a ∈ N, hp_A w a) (hy : y ∈ N) (e1 : hp_r G y 4 = some xp) (e2 : hp_r G xp 4 = some g) (e3 : hp_r G g 5 = some xp) (e4 : hp_r G xp 6 ≠ some y) (hd : 1 ≤ d) :
    wk_V w mJ26_balanceInsertion (d, 0, bi_P G0 N ps, (fun _ _ _ => False), hp_cs G0, hp_ss G0) 123 [(0, vR (some R1)), (1, vR (some y)), (2, vR (some xp)), (3, vR (some g))] [] G 0 := by
  obtain ⟨x1, x2, x3, x4, -⟩ := (hT.2 y hy).par hT.2 e1
  obtain ⟨g1, g2, g3, g4, -⟩ := (hT.2 xp x1).par hT.2 e2
  have n1 : y ≠ g := fun e => by rw [← e] at g2 g3 g4; omega
  have n2 : y ≠ xp := fun e => by rw [← e] at x4; omega
  have n3 : xp ≠ g := fun e => by rw [← e] at g4; omega
  have kx := (hT.2 xp x1).1
  have kg := (hT.2 g g1).1
  refine blJ26_balanceInsertion_123 (fun e => by cases e) (fun _ _ => ?_)
  refine blJ26_balanceInsertion_127 rfl kx (hA xp x1) (fun e => by cases e) (fun _ _ => ?_)
  have hT2 : tr (hp_sI (hp_sI G xp 8 0) g 8 1) N R1 ps lo hi := hT.fr (fun x _ => ⟨rfl, rfl⟩)
  have hrk2 : rk N G0 (hp_sI (hp_sI G xp 8 0) g 8 1) := (hrk.sI x1).sI g1
  have kN : ∀ x, x ∈ N → hp_kd (hp_sI (hp_sI G xp 8 0) g 8 1) x = 25 := fun x hx => (hT2.2 x hx).1
  refine blJ26_balanceInsertion_136 rfl kg (hA g g1) (J26_rotateRight_C (d := 0) hT2 hA g1 e3) hd (Nat.zero_le _) ?_ (fun _ _ _ q => absurd q id)
  rintro v G' ⟨rfl, h1, h2, h3⟩
  refine blJ26_balanceInsertion_146 ?_
  have hk' : ∀ x, x ∈ N → hp_kd G' x = 25 := fun x hx => by rw [h2.1.kd (by rw [kN x hx]; decide)]; exact kN x hx
  obtain ⟨lo', hi', hT3⟩ := hT2.rotRight g1 e3 hk' h1
  have f1 : hp_r G' y 4 = some xp := by
    rw [h1.1 y, if_neg n1, if_neg n2, hp_r_sI, hp_r_sI, if_neg e4]
    exact e1
  have f2 : hp_i G' xp 8 = 0 := by
    rcases h3 xp with t | t
    · exact t
    · rw [t, hp_i_sI, if_neg n3, hp_i_sI, if_pos rfl, if_pos rfl]
  have kx' := hk' xp x1
  refine blJ26_balanceInsertion_5 rfl (hk' y hy) (fun o ho => ?_) (fun e => by rw [f1] at e; cases e)
  rw [f1]
  exact blJ26_balanceInsertion_21 rfl kx' (fun _ => blJ26_balanceInsertion_37 ⟨_, _, _, rfl, hT3, hrk2.tr h2⟩) (fun e => absurd f2 e)
theorem bi_end6 {G0 : GH} {R1 y xp g : Nat} (hT : tr G N R1 ps lo hi) (hrk : rk N G0 G) (hA : ∀ a ∈ N, hp_A w a) (hy : y ∈ N) (e1 : hp_r G y 4 = some xp) (e2 : hp_r G xp 4 = some g) (e3 : hp_r G g 6 = some xp) (e4 : hp_r G xp 5 ≠ some y) (hd : 1 ≤ d) :
    wk_V w mJ26_balanceInsertion (d, 0, bi_P G0 N ps, (fun _ _ _ => False), hp_cs G0, hp_ss G0) 218 [(0, vR (some R1)), (1, vR (some y)), (2, vR (some xp)), (3, vR (some g))] [] G 0 := by
  obtain ⟨x1, x2, x3, x4, -⟩ := (hT.2 y hy).par hT.2 e1
  obtain ⟨g1, g2, g3, g4, -⟩ := (hT.2 xp x1).par hT.2 e2
  have n1 : y ≠ g := fun e => by rw [← e] at g2 g3 g4; omega
  have n2 : y ≠ xp := fun e => by rw [← e] at x4; omega
  have n3 : xp ≠ g := fun e => by rw [← e] at g4; omega
  have kx := (hT.2 xp x1).1
  have kg := (hT.2 g g1).1
  refine blJ26_balanceInsertion_218 (fun e => by cases e) (fun _ _ => ?_)
  refine blJ26_balanceInsertion_222 rfl kx (hA xp x1) (fun e => by cases e) (fun _ _ => ?_)
  have hT2 : tr (hp_sI (hp_sI G xp 8 0) g 8 1) N R1 ps lo hi := hT.fr (fun x _ => ⟨rfl, rfl⟩)
  have hrk2 : rk N G0 (hp_sI (hp_sI G xp 8 0) g 8 1) := (hrk.sI x1).sI g1
  have kN : ∀ x, x ∈ N → hp_kd (hp_sI (hp_sI G xp 8 0) g 8 1) x = 25 := fun x hx => (hT2.2 x hx).1
  refine blJ26_balanceInsertion_231 rfl kg (hA g g1) (J26_rotateLeft_C (d := 0) hT2 hA g1 e3) hd (Nat.zero_le _) ?_ (fun _ _ _ q => absurd q id)
  rintro v G' ⟨rfl, h1, h2, h3⟩
  refine blJ26_balanceInsertion_241 ?_
  have hk' : ∀ x, x ∈ N → hp_kd G' x = 25 := fun x hx => by rw [h2.1.kd (by rw [kN x hx]; decide)]; exact kN x hx
  obtain ⟨lo', hi', hT3⟩ := hT2.rotLeft g1 e3 hk' h1
  have f1 : hp_r G' y 4 = some xp := by
    rw [h1.1 y, if_neg n1, if_neg n2, hp_r_sI, hp_r_sI, if_neg e4]
    exact e1
  have f2 : hp_i G' xp 8 = 0 := by
    rcases h3 xp with t | t
    · exact t
    · rw [t, hp_i_sI, if_neg n3, hp_i_sI, if_pos rfl, if_pos rfl]
  have kx' := hk' xp x1
  refine blJ26_balanceInsertion_5 rfl (hk' y hy) (fun o ho => ?_) (fun e => by rw [f1] at e; cases e)
  rw [f1]
  exact blJ26_balanceInsertion_21 rfl kx' (fun _ => blJ26_balanceInsertion_37 ⟨_, _, _, rfl, hT3, hrk2.tr h2⟩) (fun e => absurd f2 e)
theorem bi_main {G0 : GH} (hA : ∀ a ∈ N, hp_A w a) (hd : 1 ≤ d) {W : Nat} (hW : ∀ a ∈ N, hi a ≤ W) : ∀ f (G : GH) x, tr G N r ps lo hi → rk N G0 G → x ∈ N → W ≤ hi x - lo x + f → wk_V w mJ26_balanceInsertion (d, 0, bi_P G0 N ps, (fun _ _ _ => False), hp_cs G0, hp_ss G0) 5 [(0, vR (some r)), (1, vR (some x))] [] G 0 := by
  intro f
  induction f with
  | zero =>
    intro G x hT hrk hx hf
    have kx := (hT.2 x hx).1
    have wx := (hT.2 x hx).2.1
    refine blJ26_balanceInsertion_5 rfl kx (fun xp hxp => ?_) (fun hn => ?_)
    · obtain ⟨x1, x2, x3, x4, -⟩ := (hT.2 x hx).par hT.2 hxp
      have := hW xp x1
      omega
    · have e := hT.1.2.2 x hx hn
      exact blJ26_balanceInsertion_14 rfl kx (hA x hx) ⟨_, _, _, rfl, by rw [e]; exact hT.fr (fun x _ => ⟨rfl, rfl⟩), hrk.sI hx⟩
  | succ f ih =>
    intro G x hT hrk hx hf
    have kx := (hT.2 x hx).1
    have wx := (hT.2 x hx).2.1
    refine blJ26_balanceInsertion_5 rfl kx (fun xp hxp => ?_) (fun hn => ?_)
    rotate_left
    · have e := hT.1.2.2 x hx hn
      exact blJ26_balanceInsertion_14 rfl kx (hA x hx) ⟨_, _, _, rfl, by rw [e]; exact hT.fr (fun x _ => ⟨rfl, rfl⟩), hrk.sI hx⟩
    obtain ⟨x1, x2, x3, x4, -⟩ := (hT.2 x hx).par hT.2 hxp
    have kxp := (hT.2 xp x1).1
    rw [hxp]
    refine blJ26_balanceInsertion_21 rfl kxp (fun _ => blJ26_balanceInsertion_37 ⟨_, _, _, rfl, hT, hrk⟩) (fun hred => ?_)
    refine blJ26_balanceInsertion_28 rfl kxp (fun g hg => ?_) (fun _ => blJ26_balanceInsertion_37 ⟨_, _, _, rfl, hT, hrk⟩)
    obtain ⟨g1, g2, g3, g4, g5⟩ := (hT.2 xp x1).par hT.2 hg
    have kg := (hT.2 g g1).1
    have n1 : x ≠ g := fun e => by rw [← e] at g2 g3 g4; omega
    have n2 : x ≠ xp := fun e => by rw [← e] at x4; omega
    have n3 : xp ≠ g := fun e => by rw [← e] at g4; omega
    rw [hg]
    have up : ∀ c, c ∈ N → wk_V w mJ26_balanceInsertion (d, 0, bi_P G0 N ps, (fun _ _ _ => False), hp_cs G0, hp_ss G0) 5 [(0, vR (some r)), (1, vR (some g))] [] (hp_sI (hp_sI (hp_sI G c 8 0) xp 8 0) g 8 1) 0 := fun c hc =>
      ih _ g (hT.fr (fun x _ => ⟨rfl, rfl⟩)) (((hrk.sI hc).sI x1).sI g1) g1 (by omega)
    have turn5 : hp_r G g 5 = some xp → wk_V w mJ26_balanceInsertion (d, 0, bi_P G0 N ps, (fun _ _ _ => False), hp_cs G0, hp_ss G0) 89 [(0, vR (some r)), (1, vR (some x)), (2, vR (some xp)), (3, vR (some g))] [] G 0 := by
      intro e3
      refine blJ26_balanceInsertion_89 rfl kxp (fun e4 => ?_) (fun e4 => ?_)
      · exact bi_end5 hT hrk hA hx hxp hg e3 (fun t => e4 t.symm) hd
      · have e5 : hp_r G xp 6 = some x := e4.symm
        refine blJ26_balanceInsertion_97 (J26_rotateLeft_C (d := 0) hT hA x1 e5) hd (Nat.zero_le _) ?_ (fun _ _ _ q => absurd q id)
        rintro v G' ⟨rfl, h1, h2, -⟩
        have hk' : ∀ x, x ∈ N → hp_kd G' x = 25 := fun x hx => by rw [h2.1.kd (by rw [(hT.2 x hx).1]; decide)]; exact (hT.2 x hx).1
        obtain ⟨lo', hi', hT3⟩ := hT.rotLeft x1 e5 hk' h1
        have f1 : hp_r G' xp 4 = some x := by rw [h1.1 xp, if_pos rfl]
        have f2 : hp_r G' x 4 = some g := by rw [h1.1 x, if_neg n2, if_pos rfl]; exact hg
        have f3 : hp_r G' g 5 = some x := by rw [h1.2.1 g, if_neg (Ne.symm n1), if_pos ⟨hg, e3⟩]
        have f4 : hp_r G' x 6 ≠ some xp := by
          rw [h1.2.2 x, if_neg n2, if_neg (fun t => by rw [hg] at t; exact n1 (Option.some.inj t.1).symm)]
          intro t
          have t2 := ((hT.2 x hx).2.2.2.1 xp t).2.1
          rw [hg] at t2
          exact n1 (Option.some.inj t2).symm
        refine blJ26_balanceInsertion_104 rfl (hk' xp x1) (fun o ho => ?_) (fun e => by rw [f1] at e; cases e)
        rw [f1]
        refine blJ26_balanceInsertion_118 rfl (hk' x hx) (blJ26_balanceInsertion_122 ?_)
        rw [f2]
        exact bi_end5 hT3 (hrk.tr h2) hA x1 f1 f2 f3 f4 hd
    have turn6 : hp_r G g 6 = some xp → wk_V w mJ26_balanceInsertion (d, 0, bi_P G0 N ps, (fun _ _ _ => False), hp_cs G0, hp_ss G0) 184 [(0, vR (some r)), (1, vR (some x)), (2, vR (some xp)), (3, vR (some g))] [] G 0 := by
      intro e3
      refine blJ26_balanceInsertion_184 rfl kxp (fun e4 => ?_) (fun e4 => ?_)
      · exact bi_end6 hT hrk hA hx hxp hg e3 (fun t => e4 t.symm) hd
      · have e5 : hp_r G xp 5 = some x := e4.symm
        refine blJ26_balanceInsertion_192 (J26_rotateRight_C (d := 0) hT hA x1 e5) hd (Nat.zero_le _) ?_ (fun _ _ _ q => absurd q id)
        rintro v G' ⟨rfl, h1, h2, -⟩
        have hk' : ∀ x, x ∈ N → hp_kd G' x = 25 := fun x hx => by rw [h2.1.kd (by rw [(hT.2 x hx).1]; decide)]; exact (hT.2 x hx).1
        obtain ⟨lo', hi', hT3⟩ := hT.rotRight x1 e5 hk' h1
        have f1 : hp_r G' xp 4 = some x := by rw [h1.1 xp, if_pos rfl]
        have f2 : hp_r G' x 4 = some g := by rw [h1.1 x, if_neg n2, if_pos rfl]; exact hg
        have f3 : hp_r G' g 6 = some x := by rw [h1.2.1 g, if_neg (Ne.symm n1), if_pos ⟨hg, e3⟩]
        have f4 : hp_r G' x 5 ≠ some xp := by
          rw [h1.2.2 x, if_neg n2, if_neg (fun t => by rw [hg] at t; exact n1 (Option.some.inj t.1).symm)]
          intro t
          have t2 := ((hT.2 x hx).2.2.1 xp t).2.1
          rw [hg] at t2
          exact n1 (Option.some.inj t2).symm
        refine blJ26_balanceInsertion_199 rfl (hk' xp x1) (fun o ho => ?_) (fun e => by rw [f1] at e; cases e)
        rw [f1]
        refine blJ26_balanceInsertion_213 rfl (hk' x hx) (blJ26_balanceInsertion_217 ?_)
        rw [f2]
        exact bi_end6 hT3 (hrk.tr h2) hA x1 f1 f2 f3 f4 hd
    refine blJ26_balanceInsertion_39 rfl kg (fun e => ?_) (fun e => ?_)
    · have e3 : hp_r G g 6 = some xp := g5.elim (fun t => absurd t.1.symm e) (fun t => t.1)
      refine blJ26_balanceInsertion_150 (fun _ => turn6 e3) (fun c hc => ?_)
      have c1 := ((hT.2 g g1).2.2.1 c hc).1
      rw [hc]
      exact blJ26_balanceInsertion_155 rfl (hT.2 c c1).1 (fun _ => turn6 e3) (fun _ => blJ26_balanceInsertion_163 rfl (hT.2 c c1).1 (hA c c1) rfl kxp (hA xp x1) (blJ26_balanceInsertion_174 rfl kg (hA g g1) (up c c1)))
    · have e3 : hp_r G g 5 = some xp := e.symm
      refine blJ26_balanceInsertion_50 rfl kg (fun _ => turn5 e3) (fun c hc => ?_)
      have c1 := ((hT.2 g g1).2.2.2.1 c hc).1
      rw [hc]
      exact blJ26_balanceInsertion_60 rfl (hT.2 c c1).1 (fun _ => turn5 e3) (fun _ => blJ26_balanceInsertion_68 rfl (hT.2 c c1).1 (hA c c1) rfl kxp (hA xp x1) (blJ26_balanceInsertion_79 rfl kg (hA g g1) (up c c1)))
theorem J26_balanceInsertion_C {x : Nat} (hT : tr G N r ps lo hi) (hA : ∀ a ∈ N, hp_A w a) (hx : x ∈ N) (hd : 1 ≤ d) : wk_C w mJ26_balanceInsertion d 0 [vR (some r), vR (some x)] G (bi_P G N ps) (fun _ _ _ => False) := by
  obtain ⟨W, hW⟩ := tr_bound hi N
  refine wk_C_of (by decide) rfl (Nat.le_of_ble_eq_true rfl) ?_
  refine blJ26_balanceInsertion_0 rfl (hT.2 x hx).1 (hA x hx) ?_
  exact bi_main hA hd hW W _ x (hT.fr (fun x _ => ⟨rfl, rfl⟩)) (rk.id0.sI hx) hx (by omega)
end
