/-! OWN LAYER, 9: rows that a program's blocks use -/
section
variable {w : WD} {M : MI} {j : JB} {pc r : Nat} {lv : List (Nat × WV)} {st : List WV} {G : GH}
theorem wk_e {x : Option Nat} {a : Nat} (he : x = some a) (k : wk_V w M j pc lv (vR (some a) :: st) G r) : wk_V w M j pc lv (vR x :: st) G r := by subst he; exact k
theorem wk_e2 {x : Option Nat} {a : Nat} {v : WV} (he : x = some a) (k : wk_V w M j pc lv (v :: vR (some a) :: st) G r) : wk_V w M j pc lv (v :: vR x :: st) G r := by subst he; exact k
theorem wk_e3 {x : Option Nat} {a : Nat} {u v : WV} (he : x = some a) (k : wk_V w M j pc lv (u :: v :: vR (some a) :: st) G r) : wk_V w M j pc lv (u :: v :: vR x :: st) G r := by subst he; exact k
theorem wk_eAt (n : Nat) {x : Option Nat} {a : Nat} (he : x = some a) (hst : st[n]? = some (vR x)) (k : wk_V w M j pc lv (st.set n (vR (some a))) G r) : wk_V w M j pc lv st G r := by
  subst he
  have e : st.set n (vR (some a)) = st := by
    refine List.ext_getElem? fun i => ?_
    by_cases h : i = n
    · subst h
      rw [List.getElem?_set_self (List.getElem?_eq_some_iff.mp hst).1, hst]
    · rw [List.getElem?_set_ne (Ne.symm h)]
  rw [e] at k
  exact k
theorem wk_iincC {i : Nat} {n : Int} {x : Int32} (c : Int32) (hd : decode M.2.1 pc = .ok (.iinc i n, 3)) (hg : wk_get lv i = some (vI x)) (hc : Int32.ofInt n = c) (hn : i < M.2.2.1) (k : wk_V w M j (pc + 3) (wk_set lv i (vI (x + c))) st G r) : wk_V w M j pc lv st G r :=
  wk_iinc (x + c) hd hg (by rw [hc]) hn k
/-- a cast of a reference or null -/
theorem wk_castQ {x : Option Nat} {T : String} {idx : Nat} (hw : Cond.classLink M.1.cls idx T ∈ lw_all) (hx : ∀ a, x = some a → hp_kd G a ≠ 0 ∧ hp_kd G a < 28 ∧ hp_sub (hp_kd G a) T) (hd : decode M.2.1 pc = .ok (.checkcast idx, 3)) (k : wk_V w M j (pc + 3) lv (vR x :: st) G r) : wk_V w M j pc lv (vR x :: st) G r := by
  cases x with
  | none => exact wk_castN hd k
  | some a => exact wk_cast hw (hx a rfl).1 (hx a rfl).2.1 (hx a rfl).2.2 hd k
/-- what 'instanceof T' answers: v -/
def hp_inst (G : GH) (x : Option Nat) (T : String) (v : Int32) : Prop := (x = none ∧ v = 0) ∨ ∃ a, x = some a ∧ hp_kd G a ≠ 0 ∧ hp_kd G a < 28 ∧ ((v = 1 ∧ hp_sub (hp_kd G a) T) ∨ (v = 0 ∧ (hp_C (hp_kd G a), T) ∈ hp_ncL))
theorem wk_instQ {x : Option Nat} {T : String} {v : Int32} {idx : Nat} (hw : Cond.classLink M.1.cls idx T ∈ lw_all) (hx : hp_inst G x T v) (hd : decode M.2.1 pc = .ok (.instanceof idx, 3)) (k : wk_V w M j (pc + 3) lv (vI v :: st) G r) : wk_V w M j pc lv (vR x :: st) G r := by
  rcases hx with ⟨rfl, rfl⟩ | ⟨a, rfl, h0, h28, ⟨rfl, h⟩ | ⟨rfl, h⟩⟩
  · exact wk_instN hd k
  · exact wk_inst hw h0 h28 h hd k
  · exact wk_instNo hw h0 h28 h hd k
theorem wk_objInit {a : Nat} {idx : Nat} (h1 : Cond.methodLink M.1.cls idx Lib.objectInit ∈ lw_all) (h2 : Cond.instanceMethod Lib.objectInit ∈ lw_all) (h3 : Cond.code Lib.objectInit ⟨#[0xb1]⟩ 1 none ∈ lw_all) (hcat : wk_ct st ≤ 8) (hdp : 1 ≤ j.1) (hd : decode M.2.1 pc = .ok (.invokespecial idx, 3))
    (k : wk_V w M j (pc + 3) lv st G r) : wk_V w M j pc lv (vR (some a) :: st) G r := by
  intro p l e s m args below meth c X H locs cells slots ls hR hS hc hs hl
  have hts := X.2.2.2.2.2.2.1
  refine W.objInit X.1 X.2.1 X.2.2.2.2.2.1 (hts _ h1) (hts _ h2) (hts _ h3) rfl (by rw [X.2.2.1]; exact hl.1) rfl hd (by show 1 ≤ j.1; exact hdp) ?_ (k p l e s m args below meth c X H locs cells slots ls hR hS hc hs hl)
  show 2 * 0 + _ + 12 ≤ 50 * j.1
  have := wk_ct_eq st
  rw [this]
  omega
theorem wk_ofIntNat (lo : Int) (n : Nat) (x : Int32) (h1 : ¬ x.toInt < lo) (h2 : ¬ lo + n ≤ x.toInt) : ∃ k, k < n ∧ x = Int32.ofInt (lo + k) := by
  refine ⟨(x.toInt - lo).toNat, by omega, ?_⟩
  rw [show lo + ((x.toInt - lo).toNat : Int) = x.toInt by omega]
  exact (Int32.ofInt_toInt x).symm
/-- a table switch: one goal a case, by its number, one for the rest -/
theorem wk_table (n : Nat) (tgt : Nat → Nat) (td : Nat) {dflt lo hi : Int} {offs : Array Int} {len : Nat} {x : Int32} (hd : decode M.2.1 pc = .ok (.tableswitch dflt lo hi offs, len)) (hn : hi = lo + (n : Int) - 1) (hlo : -2147483648 ≤ lo ∧ hi < 2147483648)
    (ho : ∀ k, k < n → ∃ off, offs[k]? = some off ∧ (pc : Int) + off = (tgt k : Int)) (hdf : (pc : Int) + dflt = (td : Int))
    (kc : ∀ k, k < n → x = Int32.ofInt (lo + k) → wk_V w M j (tgt k) lv st G r) (kd : (∀ k : Nat, k < n → x ≠ Int32.ofInt (lo + k)) → wk_V w M j td lv st G r) : wk_V w M j pc lv (vI x :: st) G r := by
  by_cases h1 : x.toInt < lo
  · refine wk_tableOut td hd (Or.inl h1) hdf (kd fun k hk e => ?_)
    rw [e, Int32.toInt_ofInt_of_le (by omega) (by omega)] at h1
    omega
  · by_cases h2 : lo + (n : Int) ≤ x.toInt
    · refine wk_tableOut td hd (Or.inr (by omega)) hdf (kd fun k hk e => ?_)
      rw [e, Int32.toInt_ofInt_of_le (by omega) (by omega)] at h2
      omega
    · obtain ⟨k, hk, e⟩ := wk_ofIntNat lo n x h1 h2
      obtain ⟨off, e1, e2⟩ := ho k hk
      have e3 : x.toInt = lo + k := by rw [e, Int32.toInt_ofInt_of_le (by omega) (by omega)]
      refine wk_tableIn (tgt k) hd h1 (by omega) (off := off) ?_ e2 (kc k hk e)
      rw [e3, show (lo + (k : Int) - lo).toNat = k by omega]
      exact e1
theorem wk_lookOff : ∀ (ps : List (Int × Int)) (d v : Int), (∀ q ∈ ps, q.1 ≠ v) → Op.lookupswitch.offset ps d v = d
  | [], _, _, _ => rfl
  | q :: t, d, v, h => by
    have h1 : ¬ q.1 = v := h q List.mem_cons_self
    simp only [Op.lookupswitch.offset, h1, if_false]
    exact wk_lookOff t d v fun z hz => h z (List.mem_cons_of_mem _ hz)
/-- a lookup switch: one goal a key, by its place, one for the rest -/
theorem wk_lookupQ (ks : List Int32) (tgt : Nat → Nat) (td : Nat) {dflt : Int} {ps : Array (Int × Int)} {len : Nat} {x : Int32} (hd : decode M.2.1 pc = .ok (.lookupswitch dflt ps, len)) (hp : (ps.toList.zip (ps.toList.drop 1)).all (fun (a, next) => a.1 < next.1) = true) (hk : ps.toList.map (fun q => q.1) = ks.map (fun k => k.toInt))
    (ho : ∀ i, i < ks.length → (pc : Int) + Op.lookupswitch.offset ps.toList dflt (ks.getD i 0).toInt = (tgt i : Int)) (hdf : (pc : Int) + dflt = (td : Int))
    (kc : ∀ i, i < ks.length → x = ks.getD i 0 → wk_V w M j (tgt i) lv st G r) (kd : (∀ i, i < ks.length → x ≠ ks.getD i 0) → wk_V w M j td lv st G r) : wk_V w M j pc lv (vI x :: st) G r := by
  by_cases h : ∃ i, i < ks.length ∧ x = ks.getD i 0
  · obtain ⟨i, hi, e⟩ := h
    exact wk_lookup (tgt i) hd hp rfl (by rw [e]; exact ho i hi) (kc i hi e)
  · refine wk_lookup td hd hp rfl ?_ (kd fun i hi e => h ⟨i, hi, e⟩)
    rw [wk_lookOff _ _ _ fun q hq e => h ?_]
    · exact hdf
    · have h1 : q.1 ∈ ps.toList.map (fun q => q.1) := List.mem_map.mpr ⟨q, hq, rfl⟩
      rw [hk] at h1
      obtain ⟨k, hk1, hk2⟩ := List.mem_map.mp h1
      obtain ⟨i, hi, e9⟩ := List.getElem_of_mem hk1
      refine ⟨i, hi, ?_⟩
      rw [List.getD_eq_getElem?_getD, List.getElem?_eq_getElem hi, Option.getD_some, e9]
      exact Int32.toInt_inj.mp (by rw [hk2, e])
end
