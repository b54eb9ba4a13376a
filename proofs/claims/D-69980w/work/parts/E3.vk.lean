/-! virtual calls: one rule for all kinds (tools/gen_vk.py) -/
set_option maxRecDepth 100000
def vt_causes (k : Nat) : MI := if k = 13 then mX18_causes else if k = 14 then mX19_causes else if k = 15 then mX12_causes else if k = 16 then mX12_causes else if k = 17 then mX21_causes else if k = 18 then mX16_causes else if k = 19 then mX20_causes else if k = 20 then mX17_causes else mX13_causes
theorem vt_causes_13 : vt_causes 13 = mX18_causes := by unfold vt_causes; rw [if_pos rfl]
theorem vt_causes_14 : vt_causes 14 = mX19_causes := by unfold vt_causes; rw [if_neg (by decide), if_pos rfl]
theorem vt_causes_15 : vt_causes 15 = mX12_causes := by unfold vt_causes; rw [if_neg (by decide), if_neg (by decide), if_pos rfl]
theorem vt_causes_16 : vt_causes 16 = mX12_causes := by unfold vt_causes; rw [if_neg (by decide), if_neg (by decide), if_neg (by decide), if_pos rfl]
theorem vt_causes_17 : vt_causes 17 = mX21_causes := by unfold vt_causes; rw [if_neg (by decide), if_neg (by decide), if_neg (by decide), if_neg (by decide), if_pos rfl]
theorem vt_causes_18 : vt_causes 18 = mX16_causes := by unfold vt_causes; rw [if_neg (by decide), if_neg (by decide), if_neg (by decide), if_neg (by decide), if_neg (by decide), if_pos rfl]
theorem vt_causes_19 : vt_causes 19 = mX20_causes := by unfold vt_causes; rw [if_neg (by decide), if_neg (by decide), if_neg (by decide), if_neg (by decide), if_neg (by decide), if_neg (by decide), if_pos rfl]
theorem vt_causes_20 : vt_causes 20 = mX17_causes := by unfold vt_causes; rw [if_neg (by decide), if_neg (by decide), if_neg (by decide), if_neg (by decide), if_neg (by decide), if_neg (by decide), if_neg (by decide), if_pos rfl]
theorem vt_causes_21 : vt_causes 21 = mX13_causes := by unfold vt_causes; rw [if_neg (by decide), if_neg (by decide), if_neg (by decide), if_neg (by decide), if_neg (by decide), if_neg (by decide), if_neg (by decide), if_neg (by decide)]
def vt_value (k : Nat) : MI := if k = 13 then mX18_value else if k = 14 then mX19_value else if k = 15 then mX15_value else if k = 16 then mX14_value else if k = 17 then mX21_value else if k = 18 then mX16_value else if k = 19 then mX20_value else if k = 20 then mX17_value else mX13_value
theorem vt_value_13 : vt_value 13 = mX18_value := by unfold vt_value; rw [if_pos rfl]
theorem vt_value_14 : vt_value 14 = mX19_value := by unfold vt_value; rw [if_neg (by decide), if_pos rfl]
theorem vt_value_15 : vt_value 15 = mX15_value := by unfold vt_value; rw [if_neg (by decide), if_neg (by decide), if_pos rfl]
theorem vt_value_16 : vt_value 16 = mX14_value := by unfold vt_value; rw [if_neg (by decide), if_neg (by decide), if_neg (by decide), if_pos rfl]
theorem vt_value_17 : vt_value 17 = mX21_value := by unfold vt_value; rw [if_neg (by decide), if_neg (by decide), if_neg (by decide), if_neg (by decide), if_pos rfl]
theorem vt_value_18 : vt_value 18 = mX16_value := by unfold vt_value; rw [if_neg (by decide), if_neg (by decide), if_neg (by decide), if_neg (by decide), if_neg (by decide), if_pos rfl]
theorem vt_value_19 : vt_value 19 = mX20_value := by unfold vt_value; rw [if_neg (by decide), if_neg (by decide), if_neg (by decide), if_neg (by decide), if_neg (by decide), if_neg (by decide), if_pos rfl]
theorem vt_value_20 : vt_value 20 = mX17_value := by unfold vt_value; rw [if_neg (by decide), if_neg (by decide), if_neg (by decide), if_neg (by decide), if_neg (by decide), if_neg (by decide), if_neg (by decide), if_pos rfl]
theorem vt_value_21 : vt_value 21 = mX13_value := by unfold vt_value; rw [if_neg (by decide), if_neg (by decide), if_neg (by decide), if_neg (by decide), if_neg (by decide), if_neg (by decide), if_neg (by decide), if_neg (by decide)]
def vt_typed (k : Nat) : MI := if k = 13 then mX18_typed else if k = 14 then mX19_typed else if k = 15 then mX15_typed else if k = 16 then mX14_typed else if k = 17 then mX21_typed else if k = 18 then mX16_typed else if k = 19 then mX20_typed else if k = 20 then mX17_typed else mX13_typed
theorem vt_typed_13 : vt_typed 13 = mX18_typed := by unfold vt_typed; rw [if_pos rfl]
theorem vt_typed_14 : vt_typed 14 = mX19_typed := by unfold vt_typed; rw [if_neg (by decide), if_pos rfl]
theorem vt_typed_15 : vt_typed 15 = mX15_typed := by unfold vt_typed; rw [if_neg (by decide), if_neg (by decide), if_pos rfl]
theorem vt_typed_16 : vt_typed 16 = mX14_typed := by unfold vt_typed; rw [if_neg (by decide), if_neg (by decide), if_neg (by decide), if_pos rfl]
theorem vt_typed_17 : vt_typed 17 = mX21_typed := by unfold vt_typed; rw [if_neg (by decide), if_neg (by decide), if_neg (by decide), if_neg (by decide), if_pos rfl]
theorem vt_typed_18 : vt_typed 18 = mX16_typed := by unfold vt_typed; rw [if_neg (by decide), if_neg (by decide), if_neg (by decide), if_neg (by decide), if_neg (by decide), if_pos rfl]
theorem vt_typed_19 : vt_typed 19 = mX20_typed := by unfold vt_typed; rw [if_neg (by decide), if_neg (by decide), if_neg (by decide), if_neg (by decide), if_neg (by decide), if_neg (by decide), if_pos rfl]
theorem vt_typed_20 : vt_typed 20 = mX17_typed := by unfold vt_typed; rw [if_neg (by decide), if_neg (by decide), if_neg (by decide), if_neg (by decide), if_neg (by decide), if_neg (by decide), if_neg (by decide), if_pos rfl]
theorem vt_typed_21 : vt_typed 21 = mX13_typed := by unfold vt_typed; rw [if_neg (by decide), if_neg (by decide), if_neg (by decide), if_neg (by decide), if_neg (by decide), if_neg (by decide), if_neg (by decide), if_neg (by decide)]
def vt_clocked (k : Nat) : MI := if k = 13 then mX18_clocked else if k = 14 then mX19_clocked else if k = 15 then mX12_clocked else if k = 16 then mX12_clocked else if k = 17 then mX12_clocked else if k = 18 then mX12_clocked else if k = 19 then mX20_clocked else if k = 20 then mX17_clocked else mX12_clocked
theorem vt_clocked_13 : vt_clocked 13 = mX18_clocked := by unfold vt_clocked; rw [if_pos rfl]
theorem vt_clocked_14 : vt_clocked 14 = mX19_clocked := by unfold vt_clocked; rw [if_neg (by decide), if_pos rfl]
theorem vt_clocked_15 : vt_clocked 15 = mX12_clocked := by unfold vt_clocked; rw [if_neg (by decide), if_neg (by decide), if_pos rfl]
theorem vt_clocked_16 : vt_clocked 16 = mX12_clocked := by unfold vt_clocked; rw [if_neg (by decide), if_neg (by decide), if_neg (by decide), if_pos rfl]
theorem vt_clocked_17 : vt_clocked 17 = mX12_clocked := by unfold vt_clocked; rw [if_neg (by decide), if_neg (by decide), if_neg (by decide), if_neg (by decide), if_pos rfl]
theorem vt_clocked_18 : vt_clocked 18 = mX12_clocked := by unfold vt_clocked; rw [if_neg (by decide), if_neg (by decide), if_neg (by decide), if_neg (by decide), if_neg (by decide), if_pos rfl]
theorem vt_clocked_19 : vt_clocked 19 = mX20_clocked := by unfold vt_clocked; rw [if_neg (by decide), if_neg (by decide), if_neg (by decide), if_neg (by decide), if_neg (by decide), if_neg (by decide), if_pos rfl]
theorem vt_clocked_20 : vt_clocked 20 = mX17_clocked := by unfold vt_clocked; rw [if_neg (by decide), if_neg (by decide), if_neg (by decide), if_neg (by decide), if_neg (by decide), if_neg (by decide), if_neg (by decide), if_pos rfl]
theorem vt_clocked_21 : vt_clocked 21 = mX12_clocked := by unfold vt_clocked; rw [if_neg (by decide), if_neg (by decide), if_neg (by decide), if_neg (by decide), if_neg (by decide), if_neg (by decide), if_neg (by decide), if_neg (by decide)]
def vt_settle (k : Nat) : MI := if k = 13 then mX18_settle else if k = 14 then mX19_settle else if k = 15 then mX12_settle else if k = 16 then mX12_settle else if k = 17 then mX12_settle else if k = 18 then mX12_settle else if k = 19 then mX20_settle else if k = 20 then mX17_settle else mX12_settle
theorem vt_settle_13 : vt_settle 13 = mX18_settle := by unfold vt_settle; rw [if_pos rfl]
theorem vt_settle_14 : vt_settle 14 = mX19_settle := by unfold vt_settle; rw [if_neg (by decide), if_pos rfl]
theorem vt_settle_15 : vt_settle 15 = mX12_settle := by unfold vt_settle; rw [if_neg (by decide), if_neg (by decide), if_pos rfl]
theorem vt_settle_16 : vt_settle 16 = mX12_settle := by unfold vt_settle; rw [if_neg (by decide), if_neg (by decide), if_neg (by decide), if_pos rfl]
theorem vt_settle_17 : vt_settle 17 = mX12_settle := by unfold vt_settle; rw [if_neg (by decide), if_neg (by decide), if_neg (by decide), if_neg (by decide), if_pos rfl]
theorem vt_settle_18 : vt_settle 18 = mX12_settle := by unfold vt_settle; rw [if_neg (by decide), if_neg (by decide), if_neg (by decide), if_neg (by decide), if_neg (by decide), if_pos rfl]
theorem vt_settle_19 : vt_settle 19 = mX20_settle := by unfold vt_settle; rw [if_neg (by decide), if_neg (by decide), if_neg (by decide), if_neg (by decide), if_neg (by decide), if_neg (by decide), if_pos rfl]
theorem vt_settle_20 : vt_settle 20 = mX17_settle := by unfold vt_settle; rw [if_neg (by decide), if_neg (by decide), if_neg (by decide), if_neg (by decide), if_neg (by decide), if_neg (by decide), if_neg (by decide), if_pos rfl]
theorem vt_settle_21 : vt_settle 21 = mX12_settle := by unfold vt_settle; rw [if_neg (by decide), if_neg (by decide), if_neg (by decide), if_neg (by decide), if_neg (by decide), if_neg (by decide), if_neg (by decide), if_neg (by decide)]
def vt_parts (k : Nat) : MI := if k = 13 then mX18_parts else if k = 14 then mX19_parts else if k = 15 then mX12_parts else if k = 16 then mX12_parts else if k = 17 then mX12_parts else if k = 18 then mX12_parts else if k = 19 then mX12_parts else if k = 20 then mX12_parts else mX12_parts
theorem vt_parts_13 : vt_parts 13 = mX18_parts := by unfold vt_parts; rw [if_pos rfl]
theorem vt_parts_14 : vt_parts 14 = mX19_parts := by unfold vt_parts; rw [if_neg (by decide), if_pos rfl]
theorem vt_parts_15 : vt_parts 15 = mX12_parts := by unfold vt_parts; rw [if_neg (by decide), if_neg (by decide), if_pos rfl]
theorem vt_parts_16 : vt_parts 16 = mX12_parts := by unfold vt_parts; rw [if_neg (by decide), if_neg (by decide), if_neg (by decide), if_pos rfl]
theorem vt_parts_17 : vt_parts 17 = mX12_parts := by unfold vt_parts; rw [if_neg (by decide), if_neg (by decide), if_neg (by decide), if_neg (by decide), if_pos rfl]
theorem vt_parts_18 : vt_parts 18 = mX12_parts := by unfold vt_parts; rw [if_neg (by decide), if_neg (by decide), if_neg (by decide), if_neg (by decide), if_neg (by decide), if_pos rfl]
theorem vt_parts_19 : vt_parts 19 = mX12_parts := by unfold vt_parts; rw [if_neg (by decide), if_neg (by decide), if_neg (by decide), if_neg (by decide), if_neg (by decide), if_neg (by decide), if_pos rfl]
theorem vt_parts_20 : vt_parts 20 = mX12_parts := by unfold vt_parts; rw [if_neg (by decide), if_neg (by decide), if_neg (by decide), if_neg (by decide), if_neg (by decide), if_neg (by decide), if_neg (by decide), if_pos rfl]
theorem vt_parts_21 : vt_parts 21 = mX12_parts := by unfold vt_parts; rw [if_neg (by decide), if_neg (by decide), if_neg (by decide), if_neg (by decide), if_neg (by decide), if_neg (by decide), if_neg (by decide), if_neg (by decide)]
def vt_places (k : Nat) : MI := if k = 17 then mX21_places else if k = 18 then mX16_places else mX17_places
theorem vt_places_17 : vt_places 17 = mX21_places := by unfold vt_places; rw [if_pos rfl]
theorem vt_places_18 : vt_places 18 = mX16_places := by unfold vt_places; rw [if_neg (by decide), if_pos rfl]
theorem vt_places_20 : vt_places 20 = mX17_places := by unfold vt_places; rw [if_neg (by decide), if_neg (by decide)]
def vt_next (k : Nat) : MI := if k = 17 then mX21_next else if k = 18 then mX16_next else mX17_next
theorem vt_next_17 : vt_next 17 = mX21_next := by unfold vt_next; rw [if_pos rfl]
theorem vt_next_18 : vt_next 18 = mX16_next := by unfold vt_next; rw [if_neg (by decide), if_pos rfl]
theorem vt_next_20 : vt_next 20 = mX17_next := by unfold vt_next; rw [if_neg (by decide), if_neg (by decide)]
theorem vkX1_putIn_110 {w : WD} {j : JB} {r : Nat} {G : GH} {a0 : Nat} {x2 : Int32} {o2 : Nat} {o6 : Nat} {o10 : Nat} {d' b' : Nat} {P : Option WV → GH → Prop} {PX : String → Nat → GH → Prop}
    (hk1 : hp_kd G a0 = 2)
    (e2 : (hp_r G a0 13) = some o2)
    (hi3 : vp_in x2 (hp_ln G o2))
    (hk4 : 32 ≤ hp_kd G o2)
    (e6 : (hp_r G a0 12) = some o6)
    (hi7 : vp_in x2 (hp_ln G o6))
    (hk8 : 32 ≤ hp_kd G o6)
    (e10 : (hp_r G o2 x2.toNatClampNeg) = some o10)
    (hkr : 13 ≤ hp_kd G o10 ∧ hp_kd G o10 ≤ 21)
    (hC : wk_C w (vt_causes (hp_kd G o10)) d' b' [vR (some o10), vR (hp_r G o6 x2.toNatClampNeg), vR (hp_r G a0 9)] G P PX)
    (hdp : d' + 1 ≤ j.1)
    (hb : b' ≤ r)
    (kr : ∀ v G', P v G' → wk_V w mX1_putIn j 129 [(0, vR (some a0)), (2, vI x2)] (v.toList ++ []) G' (r - b'))
    (kx : ∀ E q G', PX E q G' → wk_T w mX1_putIn j 126 [(0, vR (some a0)), (2, vI x2)] G' (r - b') E q)
    : wk_V w mX1_putIn j 110 [(0, vR (some a0)), (2, vI x2)] [] G r := by
  have hk : hp_kd G o10 = 13 ∨ hp_kd G o10 = 14 ∨ hp_kd G o10 = 15 ∨ hp_kd G o10 = 16 ∨ hp_kd G o10 = 17 ∨ hp_kd G o10 = 18 ∨ hp_kd G o10 = 19 ∨ hp_kd G o10 = 20 ∨ hp_kd G o10 = 21 := by omega
  rcases hk with h | h | h | h | h | h | h | h | h
  · rw [h, vt_causes_13] at hC
    exact blX1_putIn_110_k13 hk1 e2 hi3 hk4 e6 hi7 hk8 e10 h hC hdp hb kr kx
  · rw [h, vt_causes_14] at hC
    exact blX1_putIn_110_k14 hk1 e2 hi3 hk4 e6 hi7 hk8 e10 h hC hdp hb kr kx
  · rw [h, vt_causes_15] at hC
    exact blX1_putIn_110_k15 hk1 e2 hi3 hk4 e6 hi7 hk8 e10 h hC hdp hb kr kx
  · rw [h, vt_causes_16] at hC
    exact blX1_putIn_110_k16 hk1 e2 hi3 hk4 e6 hi7 hk8 e10 h hC hdp hb kr kx
  · rw [h, vt_causes_17] at hC
    exact blX1_putIn_110_k17 hk1 e2 hi3 hk4 e6 hi7 hk8 e10 h hC hdp hb kr kx
  · rw [h, vt_causes_18] at hC
    exact blX1_putIn_110_k18 hk1 e2 hi3 hk4 e6 hi7 hk8 e10 h hC hdp hb kr kx
  · rw [h, vt_causes_19] at hC
    exact blX1_putIn_110_k19 hk1 e2 hi3 hk4 e6 hi7 hk8 e10 h hC hdp hb kr kx
  · rw [h, vt_causes_20] at hC
    exact blX1_putIn_110_k20 hk1 e2 hi3 hk4 e6 hi7 hk8 e10 h hC hdp hb kr kx
  · rw [h, vt_causes_21] at hC
    exact blX1_putIn_110_k21 hk1 e2 hi3 hk4 e6 hi7 hk8 e10 h hC hdp hb kr kx
theorem vkX1_instant_83 {w : WD} {j : JB} {r : Nat} {G : GH} {a0 : Nat} {x1 : Int32} {x2 : Int32} {o2 : Nat} {o5 : Nat} {o9 : Nat} {o12 : Nat} {d' b' : Nat} {P : Option WV → GH → Prop} {PX : String → Nat → GH → Prop}
    (hk1 : hp_kd G a0 = 2)
    (e2 : (hp_r G a0 8) = some o2)
    (hk3 : hp_kd G o2 = 10)
    (e5 : (hp_r G a0 13) = some o5)
    (hi6 : vp_in x2 (hp_ln G o5))
    (hk7 : 32 ≤ hp_kd G o5)
    (e9 : (hp_r G a0 12) = some o9)
    (hi10 : vp_in x2 (hp_ln G o9))
    (hk11 : 32 ≤ hp_kd G o9)
    (e12 : (hp_r G o5 x2.toNatClampNeg) = some o12)
    (hkr : 13 ≤ hp_kd G o12 ∧ hp_kd G o12 ≤ 21)
    (hC : wk_C w (vt_value (hp_kd G o12)) d' b' [vR (some o12), vR (hp_r G o9 x2.toNatClampNeg)] G P PX)
    (hdp : d' + 1 ≤ j.1)
    (hb : b' ≤ r)
    (kr : ∀ v G', P v G' → wk_V w mX1_instant j 106 [(0, vR (some a0)), (1, vI x1)] (v.toList ++ [vI x2, vR (hp_r G o2 0)]) G' (r - b'))
    (kx : ∀ E q G', PX E q G' → wk_T w mX1_instant j 103 [(0, vR (some a0)), (1, vI x1), (2, vI x2)] G' (r - b') E q)
    : wk_V w mX1_instant j 83 [(0, vR (some a0)), (1, vI x1), (2, vI x2)] [] G r := by
  have hk : hp_kd G o12 = 13 ∨ hp_kd G o12 = 14 ∨ hp_kd G o12 = 15 ∨ hp_kd G o12 = 16 ∨ hp_kd G o12 = 17 ∨ hp_kd G o12 = 18 ∨ hp_kd G o12 = 19 ∨ hp_kd G o12 = 20 ∨ hp_kd G o12 = 21 := by omega
  rcases hk with h | h | h | h | h | h | h | h | h
  · rw [h, vt_value_13] at hC
    exact blX1_instant_83_k13 hk1 e2 hk3 e5 hi6 hk7 e9 hi10 hk11 e12 h hC hdp hb kr kx
  · rw [h, vt_value_14] at hC
    exact blX1_instant_83_k14 hk1 e2 hk3 e5 hi6 hk7 e9 hi10 hk11 e12 h hC hdp hb kr kx
  · rw [h, vt_value_15] at hC
    exact blX1_instant_83_k15 hk1 e2 hk3 e5 hi6 hk7 e9 hi10 hk11 e12 h hC hdp hb kr kx
  · rw [h, vt_value_16] at hC
    exact blX1_instant_83_k16 hk1 e2 hk3 e5 hi6 hk7 e9 hi10 hk11 e12 h hC hdp hb kr kx
  · rw [h, vt_value_17] at hC
    exact blX1_instant_83_k17 hk1 e2 hk3 e5 hi6 hk7 e9 hi10 hk11 e12 h hC hdp hb kr kx
  · rw [h, vt_value_18] at hC
    exact blX1_instant_83_k18 hk1 e2 hk3 e5 hi6 hk7 e9 hi10 hk11 e12 h hC hdp hb kr kx
  · rw [h, vt_value_19] at hC
    exact blX1_instant_83_k19 hk1 e2 hk3 e5 hi6 hk7 e9 hi10 hk11 e12 h hC hdp hb kr kx
  · rw [h, vt_value_20] at hC
    exact blX1_instant_83_k20 hk1 e2 hk3 e5 hi6 hk7 e9 hi10 hk11 e12 h hC hdp hb kr kx
  · rw [h, vt_value_21] at hC
    exact blX1_instant_83_k21 hk1 e2 hk3 e5 hi6 hk7 e9 hi10 hk11 e12 h hC hdp hb kr kx
theorem vkX11_type_0 {w : WD} {j : JB} {r : Nat} {G : GH} {a0 : Nat} {d' b' : Nat} {P : Option WV → GH → Prop} {PX : String → Nat → GH → Prop}
    (hkr : 13 ≤ hp_kd G a0 ∧ hp_kd G a0 ≤ 21)
    (hC : wk_C w (vt_typed (hp_kd G a0)) d' b' [vR (some a0)] G P PX)
    (hdp : d' + 1 ≤ j.1)
    (hb : b' ≤ r)
    (kr : ∀ v G', P v G' → wk_V w mX11_type j 5 [(0, vR (some a0))] (v.toList ++ [vR (some a0)]) G' (r - b'))
    (kx : ∀ E q G', PX E q G' → wk_T w mX11_type j 2 [(0, vR (some a0))] G' (r - b') E q)
    : wk_V w mX11_type j 0 [(0, vR (some a0))] [] G r := by
  have hk : hp_kd G a0 = 13 ∨ hp_kd G a0 = 14 ∨ hp_kd G a0 = 15 ∨ hp_kd G a0 = 16 ∨ hp_kd G a0 = 17 ∨ hp_kd G a0 = 18 ∨ hp_kd G a0 = 19 ∨ hp_kd G a0 = 20 ∨ hp_kd G a0 = 21 := by omega
  rcases hk with h | h | h | h | h | h | h | h | h
  · rw [h, vt_typed_13] at hC
    exact blX11_type_0_k13 h hC hdp hb kr kx
  · rw [h, vt_typed_14] at hC
    exact blX11_type_0_k14 h hC hdp hb kr kx
  · rw [h, vt_typed_15] at hC
    exact blX11_type_0_k15 h hC hdp hb kr kx
  · rw [h, vt_typed_16] at hC
    exact blX11_type_0_k16 h hC hdp hb kr kx
  · rw [h, vt_typed_17] at hC
    exact blX11_type_0_k17 h hC hdp hb kr kx
  · rw [h, vt_typed_18] at hC
    exact blX11_type_0_k18 h hC hdp hb kr kx
  · rw [h, vt_typed_19] at hC
    exact blX11_type_0_k19 h hC hdp hb kr kx
  · rw [h, vt_typed_20] at hC
    exact blX11_type_0_k20 h hC hdp hb kr kx
  · rw [h, vt_typed_21] at hC
    exact blX11_type_0_k21 h hC hdp hb kr kx
theorem vkX11_clock_0 {w : WD} {j : JB} {r : Nat} {G : GH} {a0 : Nat} {d' b' : Nat} {P : Option WV → GH → Prop} {PX : String → Nat → GH → Prop}
    (hkr : 13 ≤ hp_kd G a0 ∧ hp_kd G a0 ≤ 21)
    (hC : wk_C w (vt_clocked (hp_kd G a0)) d' b' [vR (some a0)] G P PX)
    (hdp : d' + 1 ≤ j.1)
    (hb : b' ≤ r)
    (kr : ∀ v G', P v G' → wk_V w mX11_clock j 5 [(0, vR (some a0))] (v.toList ++ [vR (some a0)]) G' (r - b'))
    (kx : ∀ E q G', PX E q G' → wk_T w mX11_clock j 2 [(0, vR (some a0))] G' (r - b') E q)
    : wk_V w mX11_clock j 0 [(0, vR (some a0))] [] G r := by
  have hk : hp_kd G a0 = 13 ∨ hp_kd G a0 = 14 ∨ hp_kd G a0 = 15 ∨ hp_kd G a0 = 16 ∨ hp_kd G a0 = 17 ∨ hp_kd G a0 = 18 ∨ hp_kd G a0 = 19 ∨ hp_kd G a0 = 20 ∨ hp_kd G a0 = 21 := by omega
  rcases hk with h | h | h | h | h | h | h | h | h
  · rw [h, vt_clocked_13] at hC
    exact blX11_clock_0_k13 h hC hdp hb kr kx
  · rw [h, vt_clocked_14] at hC
    exact blX11_clock_0_k14 h hC hdp hb kr kx
  · rw [h, vt_clocked_15] at hC
    exact blX11_clock_0_k15 h hC hdp hb kr kx
  · rw [h, vt_clocked_16] at hC
    exact blX11_clock_0_k16 h hC hdp hb kr kx
  · rw [h, vt_clocked_17] at hC
    exact blX11_clock_0_k17 h hC hdp hb kr kx
  · rw [h, vt_clocked_18] at hC
    exact blX11_clock_0_k18 h hC hdp hb kr kx
  · rw [h, vt_clocked_19] at hC
    exact blX11_clock_0_k19 h hC hdp hb kr kx
  · rw [h, vt_clocked_20] at hC
    exact blX11_clock_0_k20 h hC hdp hb kr kx
  · rw [h, vt_clocked_21] at hC
    exact blX11_clock_0_k21 h hC hdp hb kr kx
theorem vkX12_all_24 {w : WD} {j : JB} {r : Nat} {G : GH} {a0 : Nat} {a1 : Option Nat} {x3 : Int32} {s0 : Int32} {sa1 : Option Nat} {o2 : Nat} {d' b' : Nat} {P : Option WV → GH → Prop} {PX : String → Nat → GH → Prop}
    (hc1 : ∀ a, sa1 = some a → hp_kd G a ≠ 0 ∧ hp_kd G a < 28 ∧ hp_sub (hp_kd G a) "StreamNodes$Expression")
    (e2 : sa1 = some o2)
    (hkr : 13 ≤ hp_kd G o2 ∧ hp_kd G o2 ≤ 21)
    (hC : wk_C w mX11_type d' b' [vR (some o2)] G P PX)
    (hdp : d' + 1 ≤ j.1)
    (hb : b' ≤ r)
    (kr : ∀ v G', P v G' → wk_V w mX12_all j 30 [(0, vR (some a0)), (1, vR a1), (3, vI x3)] (v.toList ++ [vI s0]) G' (r - b'))
    (kx : ∀ E q G', PX E q G' → wk_T w mX12_all j 27 [(0, vR (some a0)), (1, vR a1), (3, vI x3)] G' (r - b') E q)
    : wk_V w mX12_all j 24 [(0, vR (some a0)), (1, vR a1), (3, vI x3)] [vR sa1, vI s0] G r := by
  have hk : hp_kd G o2 = 13 ∨ hp_kd G o2 = 14 ∨ hp_kd G o2 = 15 ∨ hp_kd G o2 = 16 ∨ hp_kd G o2 = 17 ∨ hp_kd G o2 = 18 ∨ hp_kd G o2 = 19 ∨ hp_kd G o2 = 20 ∨ hp_kd G o2 = 21 := by omega
  rcases hk with h | h | h | h | h | h | h | h | h
  · exact blX12_all_24_k13 hc1 e2 h hC hdp hb kr kx
  · exact blX12_all_24_k14 hc1 e2 h hC hdp hb kr kx
  · exact blX12_all_24_k15 hc1 e2 h hC hdp hb kr kx
  · exact blX12_all_24_k16 hc1 e2 h hC hdp hb kr kx
  · exact blX12_all_24_k17 hc1 e2 h hC hdp hb kr kx
  · exact blX12_all_24_k18 hc1 e2 h hC hdp hb kr kx
  · exact blX12_all_24_k19 hc1 e2 h hC hdp hb kr kx
  · exact blX12_all_24_k20 hc1 e2 h hC hdp hb kr kx
  · exact blX12_all_24_k21 hc1 e2 h hC hdp hb kr kx
theorem vkX12_clocked_25 {w : WD} {j : JB} {r : Nat} {G : GH} {a0 : Nat} {a1 : Option Nat} {x2 : Int32} {sa0 : Option Nat} {o2 : Nat} {d' b' : Nat} {P : Option WV → GH → Prop} {PX : String → Nat → GH → Prop}
    (hc1 : ∀ a, sa0 = some a → hp_kd G a ≠ 0 ∧ hp_kd G a < 28 ∧ hp_sub (hp_kd G a) "StreamNodes$Expression")
    (e2 : sa0 = some o2)
    (hkr : 13 ≤ hp_kd G o2 ∧ hp_kd G o2 ≤ 21)
    (hC : wk_C w mX11_clock d' b' [vR (some o2)] G P PX)
    (hdp : d' + 1 ≤ j.1)
    (hb : b' ≤ r)
    (kr : ∀ v G', P v G' → wk_V w mX12_clocked j 31 [(0, vR (some a0)), (1, vR a1), (2, vI x2)] (v.toList ++ []) G' (r - b'))
    (kx : ∀ E q G', PX E q G' → wk_T w mX12_clocked j 28 [(0, vR (some a0)), (1, vR a1), (2, vI x2)] G' (r - b') E q)
    : wk_V w mX12_clocked j 25 [(0, vR (some a0)), (1, vR a1), (2, vI x2)] [vR sa0] G r := by
  have hk : hp_kd G o2 = 13 ∨ hp_kd G o2 = 14 ∨ hp_kd G o2 = 15 ∨ hp_kd G o2 = 16 ∨ hp_kd G o2 = 17 ∨ hp_kd G o2 = 18 ∨ hp_kd G o2 = 19 ∨ hp_kd G o2 = 20 ∨ hp_kd G o2 = 21 := by omega
  rcases hk with h | h | h | h | h | h | h | h | h
  · exact blX12_clocked_25_k13 hc1 e2 h hC hdp hb kr kx
  · exact blX12_clocked_25_k14 hc1 e2 h hC hdp hb kr kx
  · exact blX12_clocked_25_k15 hc1 e2 h hC hdp hb kr kx
  · exact blX12_clocked_25_k16 hc1 e2 h hC hdp hb kr kx
  · exact blX12_clocked_25_k17 hc1 e2 h hC hdp hb kr kx
  · exact blX12_clocked_25_k18 hc1 e2 h hC hdp hb kr kx
  · exact blX12_clocked_25_k19 hc1 e2 h hC hdp hb kr kx
  · exact blX12_clocked_25_k20 hc1 e2 h hC hdp hb kr kx
  · exact blX12_clocked_25_k21 hc1 e2 h hC hdp hb kr kx
theorem vkX12_settle_36 {w : WD} {j : JB} {r : Nat} {G : GH} {a0 : Nat} {x2 : Int32} {sa0 : Option Nat} {o3 : Nat} {d' b' : Nat} {P : Option WV → GH → Prop} {PX : String → Nat → GH → Prop}
    (hc1 : ∀ a, sa0 = some a → hp_kd G a ≠ 0 ∧ hp_kd G a < 28 ∧ hp_sub (hp_kd G a) "StreamNodes$Expression")
    (hk2 : 15 ≤ hp_kd G a0 ∧ hp_kd G a0 ≤ 21)
    (e3 : sa0 = some o3)
    (hkr : 13 ≤ hp_kd G o3 ∧ hp_kd G o3 ≤ 21)
    (hC : wk_C w (vt_settle (hp_kd G o3)) d' b' [vR (some o3), vR (hp_r G a0 1)] G P PX)
    (hdp : d' + 1 ≤ j.1)
    (hb : b' ≤ r)
    (kr : ∀ v G', P v G' → wk_V w mX12_settle j 46 [(0, vR (some a0)), (2, vI x2)] (v.toList ++ []) G' (r - b'))
    (kx : ∀ E q G', PX E q G' → wk_T w mX12_settle j 43 [(0, vR (some a0)), (2, vI x2)] G' (r - b') E q)
    : wk_V w mX12_settle j 36 [(0, vR (some a0)), (2, vI x2)] [vR sa0] G r := by
  have hk : hp_kd G o3 = 13 ∨ hp_kd G o3 = 14 ∨ hp_kd G o3 = 15 ∨ hp_kd G o3 = 16 ∨ hp_kd G o3 = 17 ∨ hp_kd G o3 = 18 ∨ hp_kd G o3 = 19 ∨ hp_kd G o3 = 20 ∨ hp_kd G o3 = 21 := by omega
  rcases hk with h | h | h | h | h | h | h | h | h
  · rw [h, vt_settle_13] at hC
    exact blX12_settle_36_k13 hc1 hk2 e3 h hC hdp hb kr kx
  · rw [h, vt_settle_14] at hC
    exact blX12_settle_36_k14 hc1 hk2 e3 h hC hdp hb kr kx
  · rw [h, vt_settle_15] at hC
    exact blX12_settle_36_k15 hc1 hk2 e3 h hC hdp hb kr kx
  · rw [h, vt_settle_16] at hC
    exact blX12_settle_36_k16 hc1 hk2 e3 h hC hdp hb kr kx
  · rw [h, vt_settle_17] at hC
    exact blX12_settle_36_k17 hc1 hk2 e3 h hC hdp hb kr kx
  · rw [h, vt_settle_18] at hC
    exact blX12_settle_36_k18 hc1 hk2 e3 h hC hdp hb kr kx
  · rw [h, vt_settle_19] at hC
    exact blX12_settle_36_k19 hc1 hk2 e3 h hC hdp hb kr kx
  · rw [h, vt_settle_20] at hC
    exact blX12_settle_36_k20 hc1 hk2 e3 h hC hdp hb kr kx
  · rw [h, vt_settle_21] at hC
    exact blX12_settle_36_k21 hc1 hk2 e3 h hC hdp hb kr kx
theorem vkX12_parts_24 {w : WD} {j : JB} {r : Nat} {G : GH} {a0 : Nat} {x2 : Int32} {s0 : Int32} {sa1 : Option Nat} {o2 : Nat} {d' b' : Nat} {P : Option WV → GH → Prop} {PX : String → Nat → GH → Prop}
    (hc1 : ∀ a, sa1 = some a → hp_kd G a ≠ 0 ∧ hp_kd G a < 28 ∧ hp_sub (hp_kd G a) "StreamNodes$Expression")
    (e2 : sa1 = some o2)
    (hkr : 13 ≤ hp_kd G o2 ∧ hp_kd G o2 ≤ 21)
    (hC : wk_C w (vt_parts (hp_kd G o2)) d' b' [vR (some o2)] G P PX)
    (hdp : d' + 1 ≤ j.1)
    (hb : b' ≤ r)
    (kr : ∀ v G', P v G' → wk_V w mX12_parts j 30 [(0, vR (some a0)), (2, vI x2)] (v.toList ++ [vI s0]) G' (r - b'))
    (kx : ∀ E q G', PX E q G' → wk_T w mX12_parts j 27 [(0, vR (some a0)), (2, vI x2)] G' (r - b') E q)
    : wk_V w mX12_parts j 24 [(0, vR (some a0)), (2, vI x2)] [vR sa1, vI s0] G r := by
  have hk : hp_kd G o2 = 13 ∨ hp_kd G o2 = 14 ∨ hp_kd G o2 = 15 ∨ hp_kd G o2 = 16 ∨ hp_kd G o2 = 17 ∨ hp_kd G o2 = 18 ∨ hp_kd G o2 = 19 ∨ hp_kd G o2 = 20 ∨ hp_kd G o2 = 21 := by omega
  rcases hk with h | h | h | h | h | h | h | h | h
  · rw [h, vt_parts_13] at hC
    exact blX12_parts_24_k13 hc1 e2 h hC hdp hb kr kx
  · rw [h, vt_parts_14] at hC
    exact blX12_parts_24_k14 hc1 e2 h hC hdp hb kr kx
  · rw [h, vt_parts_15] at hC
    exact blX12_parts_24_k15 hc1 e2 h hC hdp hb kr kx
  · rw [h, vt_parts_16] at hC
    exact blX12_parts_24_k16 hc1 e2 h hC hdp hb kr kx
  · rw [h, vt_parts_17] at hC
    exact blX12_parts_24_k17 hc1 e2 h hC hdp hb kr kx
  · rw [h, vt_parts_18] at hC
    exact blX12_parts_24_k18 hc1 e2 h hC hdp hb kr kx
  · rw [h, vt_parts_19] at hC
    exact blX12_parts_24_k19 hc1 e2 h hC hdp hb kr kx
  · rw [h, vt_parts_20] at hC
    exact blX12_parts_24_k20 hc1 e2 h hC hdp hb kr kx
  · rw [h, vt_parts_21] at hC
    exact blX12_parts_24_k21 hc1 e2 h hC hdp hb kr kx
theorem vkX12_causes_21 {w : WD} {j : JB} {r : Nat} {G : GH} {a0 : Nat} {a1 : Option Nat} {a2 : Option Nat} {x3 : Int32} {sa0 : Option Nat} {o2 : Nat} {d' b' : Nat} {P : Option WV → GH → Prop} {PX : String → Nat → GH → Prop}
    (hc1 : ∀ a, sa0 = some a → hp_kd G a ≠ 0 ∧ hp_kd G a < 28 ∧ hp_sub (hp_kd G a) "StreamNodes$Expression")
    (e2 : sa0 = some o2)
    (hkr : 13 ≤ hp_kd G o2 ∧ hp_kd G o2 ≤ 21)
    (hC : wk_C w (vt_causes (hp_kd G o2)) d' b' [vR (some o2), vR a1, vR a2] G P PX)
    (hdp : d' + 1 ≤ j.1)
    (hb : b' ≤ r)
    (kr : ∀ v G', P v G' → wk_V w mX12_causes j 29 [(0, vR (some a0)), (1, vR a1), (2, vR a2), (3, vI x3)] (v.toList ++ []) G' (r - b'))
    (kx : ∀ E q G', PX E q G' → wk_T w mX12_causes j 26 [(0, vR (some a0)), (1, vR a1), (2, vR a2), (3, vI x3)] G' (r - b') E q)
    : wk_V w mX12_causes j 21 [(0, vR (some a0)), (1, vR a1), (2, vR a2), (3, vI x3)] [vR sa0] G r := by
  have hk : hp_kd G o2 = 13 ∨ hp_kd G o2 = 14 ∨ hp_kd G o2 = 15 ∨ hp_kd G o2 = 16 ∨ hp_kd G o2 = 17 ∨ hp_kd G o2 = 18 ∨ hp_kd G o2 = 19 ∨ hp_kd G o2 = 20 ∨ hp_kd G o2 = 21 := by omega
  rcases hk with h | h | h | h | h | h | h | h | h
  · rw [h, vt_causes_13] at hC
    exact blX12_causes_21_k13 hc1 e2 h hC hdp hb kr kx
  · rw [h, vt_causes_14] at hC
    exact blX12_causes_21_k14 hc1 e2 h hC hdp hb kr kx
  · rw [h, vt_causes_15] at hC
    exact blX12_causes_21_k15 hc1 e2 h hC hdp hb kr kx
  · rw [h, vt_causes_16] at hC
    exact blX12_causes_21_k16 hc1 e2 h hC hdp hb kr kx
  · rw [h, vt_causes_17] at hC
    exact blX12_causes_21_k17 hc1 e2 h hC hdp hb kr kx
  · rw [h, vt_causes_18] at hC
    exact blX12_causes_21_k18 hc1 e2 h hC hdp hb kr kx
  · rw [h, vt_causes_19] at hC
    exact blX12_causes_21_k19 hc1 e2 h hC hdp hb kr kx
  · rw [h, vt_causes_20] at hC
    exact blX12_causes_21_k20 hc1 e2 h hC hdp hb kr kx
  · rw [h, vt_causes_21] at hC
    exact blX12_causes_21_k21 hc1 e2 h hC hdp hb kr kx
theorem vkX12_part_8 {w : WD} {j : JB} {r : Nat} {G : GH} {a2 : Option Nat} {sa0 : Option Nat} {o2 : Nat} {d' b' : Nat} {P : Option WV → GH → Prop} {PX : String → Nat → GH → Prop}
    (hc1 : ∀ a, sa0 = some a → hp_kd G a ≠ 0 ∧ hp_kd G a < 28 ∧ hp_sub (hp_kd G a) "StreamNodes$Expression")
    (e2 : sa0 = some o2)
    (hkr : 13 ≤ hp_kd G o2 ∧ hp_kd G o2 ≤ 21)
    (hC : wk_C w (vt_value (hp_kd G o2)) d' b' [vR (some o2), vR a2] G P PX)
    (hdp : d' + 1 ≤ j.1)
    (hb : b' ≤ r)
    (kr : ∀ v G', P v G' → wk_V w mX12_part j 15 [] (v.toList ++ []) G' (r - b'))
    (kx : ∀ E q G', PX E q G' → wk_T w mX12_part j 12 [(2, vR a2)] G' (r - b') E q)
    : wk_V w mX12_part j 8 [(2, vR a2)] [vR sa0] G r := by
  have hk : hp_kd G o2 = 13 ∨ hp_kd G o2 = 14 ∨ hp_kd G o2 = 15 ∨ hp_kd G o2 = 16 ∨ hp_kd G o2 = 17 ∨ hp_kd G o2 = 18 ∨ hp_kd G o2 = 19 ∨ hp_kd G o2 = 20 ∨ hp_kd G o2 = 21 := by omega
  rcases hk with h | h | h | h | h | h | h | h | h
  · rw [h, vt_value_13] at hC
    exact blX12_part_8_k13 hc1 e2 h hC hdp hb kr kx
  · rw [h, vt_value_14] at hC
    exact blX12_part_8_k14 hc1 e2 h hC hdp hb kr kx
  · rw [h, vt_value_15] at hC
    exact blX12_part_8_k15 hc1 e2 h hC hdp hb kr kx
  · rw [h, vt_value_16] at hC
    exact blX12_part_8_k16 hc1 e2 h hC hdp hb kr kx
  · rw [h, vt_value_17] at hC
    exact blX12_part_8_k17 hc1 e2 h hC hdp hb kr kx
  · rw [h, vt_value_18] at hC
    exact blX12_part_8_k18 hc1 e2 h hC hdp hb kr kx
  · rw [h, vt_value_19] at hC
    exact blX12_part_8_k19 hc1 e2 h hC hdp hb kr kx
  · rw [h, vt_value_20] at hC
    exact blX12_part_8_k20 hc1 e2 h hC hdp hb kr kx
  · rw [h, vt_value_21] at hC
    exact blX12_part_8_k21 hc1 e2 h hC hdp hb kr kx
theorem vkX13_typed_21 {w : WD} {j : JB} {r : Nat} {G : GH} {a0 : Nat} {x1 : Int32} {sa0 : Option Nat} {o2 : Nat} {d' b' : Nat} {P : Option WV → GH → Prop} {PX : String → Nat → GH → Prop}
    (hc1 : ∀ a, sa0 = some a → hp_kd G a ≠ 0 ∧ hp_kd G a < 28 ∧ hp_sub (hp_kd G a) "StreamNodes$Expression")
    (e2 : sa0 = some o2)
    (hkr : 13 ≤ hp_kd G o2 ∧ hp_kd G o2 ≤ 21)
    (hC : wk_C w mX11_type d' b' [vR (some o2)] G P PX)
    (hdp : d' + 1 ≤ j.1)
    (hb : b' ≤ r)
    (kr : ∀ v G', P v G' → wk_V w mX13_typed j 27 [(0, vR (some a0)), (1, vI x1)] (v.toList ++ []) G' (r - b'))
    (kx : ∀ E q G', PX E q G' → wk_T w mX13_typed j 24 [(0, vR (some a0)), (1, vI x1)] G' (r - b') E q)
    : wk_V w mX13_typed j 21 [(0, vR (some a0)), (1, vI x1)] [vR sa0] G r := by
  have hk : hp_kd G o2 = 13 ∨ hp_kd G o2 = 14 ∨ hp_kd G o2 = 15 ∨ hp_kd G o2 = 16 ∨ hp_kd G o2 = 17 ∨ hp_kd G o2 = 18 ∨ hp_kd G o2 = 19 ∨ hp_kd G o2 = 20 ∨ hp_kd G o2 = 21 := by omega
  rcases hk with h | h | h | h | h | h | h | h | h
  · exact blX13_typed_21_k13 hc1 e2 h hC hdp hb kr kx
  · exact blX13_typed_21_k14 hc1 e2 h hC hdp hb kr kx
  · exact blX13_typed_21_k15 hc1 e2 h hC hdp hb kr kx
  · exact blX13_typed_21_k16 hc1 e2 h hC hdp hb kr kx
  · exact blX13_typed_21_k17 hc1 e2 h hC hdp hb kr kx
  · exact blX13_typed_21_k18 hc1 e2 h hC hdp hb kr kx
  · exact blX13_typed_21_k19 hc1 e2 h hC hdp hb kr kx
  · exact blX13_typed_21_k20 hc1 e2 h hC hdp hb kr kx
  · exact blX13_typed_21_k21 hc1 e2 h hC hdp hb kr kx
theorem vkX14_typed_8 {w : WD} {j : JB} {r : Nat} {G : GH} {a0 : Nat} {sa0 : Option Nat} {o2 : Nat} {d' b' : Nat} {P : Option WV → GH → Prop} {PX : String → Nat → GH → Prop}
    (hc1 : ∀ a, sa0 = some a → hp_kd G a ≠ 0 ∧ hp_kd G a < 28 ∧ hp_sub (hp_kd G a) "StreamNodes$Expression")
    (e2 : sa0 = some o2)
    (hkr : 13 ≤ hp_kd G o2 ∧ hp_kd G o2 ≤ 21)
    (hC : wk_C w mX11_type d' b' [vR (some o2)] G P PX)
    (hdp : d' + 1 ≤ j.1)
    (hb : b' ≤ r)
    (kr : ∀ v G', P v G' → wk_V w mX14_typed j 14 [(0, vR (some a0))] (v.toList ++ []) G' (r - b'))
    (kx : ∀ E q G', PX E q G' → wk_T w mX14_typed j 11 [(0, vR (some a0))] G' (r - b') E q)
    : wk_V w mX14_typed j 8 [(0, vR (some a0))] [vR sa0] G r := by
  have hk : hp_kd G o2 = 13 ∨ hp_kd G o2 = 14 ∨ hp_kd G o2 = 15 ∨ hp_kd G o2 = 16 ∨ hp_kd G o2 = 17 ∨ hp_kd G o2 = 18 ∨ hp_kd G o2 = 19 ∨ hp_kd G o2 = 20 ∨ hp_kd G o2 = 21 := by omega
  rcases hk with h | h | h | h | h | h | h | h | h
  · exact blX14_typed_8_k13 hc1 e2 h hC hdp hb kr kx
  · exact blX14_typed_8_k14 hc1 e2 h hC hdp hb kr kx
  · exact blX14_typed_8_k15 hc1 e2 h hC hdp hb kr kx
  · exact blX14_typed_8_k16 hc1 e2 h hC hdp hb kr kx
  · exact blX14_typed_8_k17 hc1 e2 h hC hdp hb kr kx
  · exact blX14_typed_8_k18 hc1 e2 h hC hdp hb kr kx
  · exact blX14_typed_8_k19 hc1 e2 h hC hdp hb kr kx
  · exact blX14_typed_8_k20 hc1 e2 h hC hdp hb kr kx
  · exact blX14_typed_8_k21 hc1 e2 h hC hdp hb kr kx
theorem vkX14_typed_23 {w : WD} {j : JB} {r : Nat} {G : GH} {a0 : Nat} {a1 : Option Nat} {sa0 : Option Nat} {o2 : Nat} {d' b' : Nat} {P : Option WV → GH → Prop} {PX : String → Nat → GH → Prop}
    (hc1 : ∀ a, sa0 = some a → hp_kd G a ≠ 0 ∧ hp_kd G a < 28 ∧ hp_sub (hp_kd G a) "StreamNodes$Expression")
    (e2 : sa0 = some o2)
    (hkr : 13 ≤ hp_kd G o2 ∧ hp_kd G o2 ≤ 21)
    (hC : wk_C w mX11_type d' b' [vR (some o2)] G P PX)
    (hdp : d' + 1 ≤ j.1)
    (hb : b' ≤ r)
    (kr : ∀ v G', P v G' → wk_V w mX14_typed j 29 [(0, vR (some a0)), (1, vR a1)] (v.toList ++ []) G' (r - b'))
    (kx : ∀ E q G', PX E q G' → wk_T w mX14_typed j 26 [(0, vR (some a0)), (1, vR a1)] G' (r - b') E q)
    : wk_V w mX14_typed j 23 [(0, vR (some a0)), (1, vR a1)] [vR sa0] G r := by
  have hk : hp_kd G o2 = 13 ∨ hp_kd G o2 = 14 ∨ hp_kd G o2 = 15 ∨ hp_kd G o2 = 16 ∨ hp_kd G o2 = 17 ∨ hp_kd G o2 = 18 ∨ hp_kd G o2 = 19 ∨ hp_kd G o2 = 20 ∨ hp_kd G o2 = 21 := by omega
  rcases hk with h | h | h | h | h | h | h | h | h
  · exact blX14_typed_23_k13 hc1 e2 h hC hdp hb kr kx
  · exact blX14_typed_23_k14 hc1 e2 h hC hdp hb kr kx
  · exact blX14_typed_23_k15 hc1 e2 h hC hdp hb kr kx
  · exact blX14_typed_23_k16 hc1 e2 h hC hdp hb kr kx
  · exact blX14_typed_23_k17 hc1 e2 h hC hdp hb kr kx
  · exact blX14_typed_23_k18 hc1 e2 h hC hdp hb kr kx
  · exact blX14_typed_23_k19 hc1 e2 h hC hdp hb kr kx
  · exact blX14_typed_23_k20 hc1 e2 h hC hdp hb kr kx
  · exact blX14_typed_23_k21 hc1 e2 h hC hdp hb kr kx
theorem vkX14_typed_38 {w : WD} {j : JB} {r : Nat} {G : GH} {a0 : Nat} {a1 : Option Nat} {a2 : Option Nat} {sa0 : Option Nat} {o2 : Nat} {d' b' : Nat} {P : Option WV → GH → Prop} {PX : String → Nat → GH → Prop}
    (hc1 : ∀ a, sa0 = some a → hp_kd G a ≠ 0 ∧ hp_kd G a < 28 ∧ hp_sub (hp_kd G a) "StreamNodes$Expression")
    (e2 : sa0 = some o2)
    (hkr : 13 ≤ hp_kd G o2 ∧ hp_kd G o2 ≤ 21)
    (hC : wk_C w mX11_type d' b' [vR (some o2)] G P PX)
    (hdp : d' + 1 ≤ j.1)
    (hb : b' ≤ r)
    (kr : ∀ v G', P v G' → wk_V w mX14_typed j 44 [(0, vR (some a0)), (1, vR a1), (2, vR a2)] (v.toList ++ []) G' (r - b'))
    (kx : ∀ E q G', PX E q G' → wk_T w mX14_typed j 41 [(0, vR (some a0)), (1, vR a1), (2, vR a2)] G' (r - b') E q)
    : wk_V w mX14_typed j 38 [(0, vR (some a0)), (1, vR a1), (2, vR a2)] [vR sa0] G r := by
  have hk : hp_kd G o2 = 13 ∨ hp_kd G o2 = 14 ∨ hp_kd G o2 = 15 ∨ hp_kd G o2 = 16 ∨ hp_kd G o2 = 17 ∨ hp_kd G o2 = 18 ∨ hp_kd G o2 = 19 ∨ hp_kd G o2 = 20 ∨ hp_kd G o2 = 21 := by omega
  rcases hk with h | h | h | h | h | h | h | h | h
  · exact blX14_typed_38_k13 hc1 e2 h hC hdp hb kr kx
  · exact blX14_typed_38_k14 hc1 e2 h hC hdp hb kr kx
  · exact blX14_typed_38_k15 hc1 e2 h hC hdp hb kr kx
  · exact blX14_typed_38_k16 hc1 e2 h hC hdp hb kr kx
  · exact blX14_typed_38_k17 hc1 e2 h hC hdp hb kr kx
  · exact blX14_typed_38_k18 hc1 e2 h hC hdp hb kr kx
  · exact blX14_typed_38_k19 hc1 e2 h hC hdp hb kr kx
  · exact blX14_typed_38_k20 hc1 e2 h hC hdp hb kr kx
  · exact blX14_typed_38_k21 hc1 e2 h hC hdp hb kr kx
theorem vkX15_typed_26 {w : WD} {j : JB} {r : Nat} {G : GH} {a0 : Nat} {sa0 : Option Nat} {o2 : Nat} {d' b' : Nat} {P : Option WV → GH → Prop} {PX : String → Nat → GH → Prop}
    (hc1 : ∀ a, sa0 = some a → hp_kd G a ≠ 0 ∧ hp_kd G a < 28 ∧ hp_sub (hp_kd G a) "StreamNodes$Expression")
    (e2 : sa0 = some o2)
    (hkr : 13 ≤ hp_kd G o2 ∧ hp_kd G o2 ≤ 21)
    (hC : wk_C w mX11_type d' b' [vR (some o2)] G P PX)
    (hdp : d' + 1 ≤ j.1)
    (hb : b' ≤ r)
    (kr : ∀ v G', P v G' → wk_V w mX15_typed j 32 [(0, vR (some a0))] (v.toList ++ []) G' (r - b'))
    (kx : ∀ E q G', PX E q G' → wk_T w mX15_typed j 29 [(0, vR (some a0))] G' (r - b') E q)
    : wk_V w mX15_typed j 26 [(0, vR (some a0))] [vR sa0] G r := by
  have hk : hp_kd G o2 = 13 ∨ hp_kd G o2 = 14 ∨ hp_kd G o2 = 15 ∨ hp_kd G o2 = 16 ∨ hp_kd G o2 = 17 ∨ hp_kd G o2 = 18 ∨ hp_kd G o2 = 19 ∨ hp_kd G o2 = 20 ∨ hp_kd G o2 = 21 := by omega
  rcases hk with h | h | h | h | h | h | h | h | h
  · exact blX15_typed_26_k13 hc1 e2 h hC hdp hb kr kx
  · exact blX15_typed_26_k14 hc1 e2 h hC hdp hb kr kx
  · exact blX15_typed_26_k15 hc1 e2 h hC hdp hb kr kx
  · exact blX15_typed_26_k16 hc1 e2 h hC hdp hb kr kx
  · exact blX15_typed_26_k17 hc1 e2 h hC hdp hb kr kx
  · exact blX15_typed_26_k18 hc1 e2 h hC hdp hb kr kx
  · exact blX15_typed_26_k19 hc1 e2 h hC hdp hb kr kx
  · exact blX15_typed_26_k20 hc1 e2 h hC hdp hb kr kx
  · exact blX15_typed_26_k21 hc1 e2 h hC hdp hb kr kx
theorem vkX15_typed_41 {w : WD} {j : JB} {r : Nat} {G : GH} {a0 : Nat} {a1 : Option Nat} {sa0 : Option Nat} {o2 : Nat} {d' b' : Nat} {P : Option WV → GH → Prop} {PX : String → Nat → GH → Prop}
    (hc1 : ∀ a, sa0 = some a → hp_kd G a ≠ 0 ∧ hp_kd G a < 28 ∧ hp_sub (hp_kd G a) "StreamNodes$Expression")
    (e2 : sa0 = some o2)
    (hkr : 13 ≤ hp_kd G o2 ∧ hp_kd G o2 ≤ 21)
    (hC : wk_C w mX11_type d' b' [vR (some o2)] G P PX)
    (hdp : d' + 1 ≤ j.1)
    (hb : b' ≤ r)
    (kr : ∀ v G', P v G' → wk_V w mX15_typed j 47 [(0, vR (some a0)), (1, vR a1)] (v.toList ++ []) G' (r - b'))
    (kx : ∀ E q G', PX E q G' → wk_T w mX15_typed j 44 [(0, vR (some a0)), (1, vR a1)] G' (r - b') E q)
    : wk_V w mX15_typed j 41 [(0, vR (some a0)), (1, vR a1)] [vR sa0] G r := by
  have hk : hp_kd G o2 = 13 ∨ hp_kd G o2 = 14 ∨ hp_kd G o2 = 15 ∨ hp_kd G o2 = 16 ∨ hp_kd G o2 = 17 ∨ hp_kd G o2 = 18 ∨ hp_kd G o2 = 19 ∨ hp_kd G o2 = 20 ∨ hp_kd G o2 = 21 := by omega
  rcases hk with h | h | h | h | h | h | h | h | h
  · exact blX15_typed_41_k13 hc1 e2 h hC hdp hb kr kx
  · exact blX15_typed_41_k14 hc1 e2 h hC hdp hb kr kx
  · exact blX15_typed_41_k15 hc1 e2 h hC hdp hb kr kx
  · exact blX15_typed_41_k16 hc1 e2 h hC hdp hb kr kx
  · exact blX15_typed_41_k17 hc1 e2 h hC hdp hb kr kx
  · exact blX15_typed_41_k18 hc1 e2 h hC hdp hb kr kx
  · exact blX15_typed_41_k19 hc1 e2 h hC hdp hb kr kx
  · exact blX15_typed_41_k20 hc1 e2 h hC hdp hb kr kx
  · exact blX15_typed_41_k21 hc1 e2 h hC hdp hb kr kx
theorem vkX16_typed_8 {w : WD} {j : JB} {r : Nat} {G : GH} {sa0 : Option Nat} {o2 : Nat} {d' b' : Nat} {P : Option WV → GH → Prop} {PX : String → Nat → GH → Prop}
    (hc1 : ∀ a, sa0 = some a → hp_kd G a ≠ 0 ∧ hp_kd G a < 28 ∧ hp_sub (hp_kd G a) "StreamNodes$Expression")
    (e2 : sa0 = some o2)
    (hkr : 13 ≤ hp_kd G o2 ∧ hp_kd G o2 ≤ 21)
    (hC : wk_C w mX11_type d' b' [vR (some o2)] G P PX)
    (hdp : d' + 1 ≤ j.1)
    (hb : b' ≤ r)
    (kr : ∀ v G', P v G' → wk_V w mX16_typed j 14 [] (v.toList ++ []) G' (r - b'))
    (kx : ∀ E q G', PX E q G' → wk_T w mX16_typed j 11 [] G' (r - b') E q)
    : wk_V w mX16_typed j 8 [] [vR sa0] G r := by
  have hk : hp_kd G o2 = 13 ∨ hp_kd G o2 = 14 ∨ hp_kd G o2 = 15 ∨ hp_kd G o2 = 16 ∨ hp_kd G o2 = 17 ∨ hp_kd G o2 = 18 ∨ hp_kd G o2 = 19 ∨ hp_kd G o2 = 20 ∨ hp_kd G o2 = 21 := by omega
  rcases hk with h | h | h | h | h | h | h | h | h
  · exact blX16_typed_8_k13 hc1 e2 h hC hdp hb kr kx
  · exact blX16_typed_8_k14 hc1 e2 h hC hdp hb kr kx
  · exact blX16_typed_8_k15 hc1 e2 h hC hdp hb kr kx
  · exact blX16_typed_8_k16 hc1 e2 h hC hdp hb kr kx
  · exact blX16_typed_8_k17 hc1 e2 h hC hdp hb kr kx
  · exact blX16_typed_8_k18 hc1 e2 h hC hdp hb kr kx
  · exact blX16_typed_8_k19 hc1 e2 h hC hdp hb kr kx
  · exact blX16_typed_8_k20 hc1 e2 h hC hdp hb kr kx
  · exact blX16_typed_8_k21 hc1 e2 h hC hdp hb kr kx
theorem vkX17_typed_8 {w : WD} {j : JB} {r : Nat} {G : GH} {sa0 : Option Nat} {o2 : Nat} {d' b' : Nat} {P : Option WV → GH → Prop} {PX : String → Nat → GH → Prop}
    (hc1 : ∀ a, sa0 = some a → hp_kd G a ≠ 0 ∧ hp_kd G a < 28 ∧ hp_sub (hp_kd G a) "StreamNodes$Expression")
    (e2 : sa0 = some o2)
    (hkr : 13 ≤ hp_kd G o2 ∧ hp_kd G o2 ≤ 21)
    (hC : wk_C w mX11_type d' b' [vR (some o2)] G P PX)
    (hdp : d' + 1 ≤ j.1)
    (hb : b' ≤ r)
    (kr : ∀ v G', P v G' → wk_V w mX17_typed j 14 [] (v.toList ++ []) G' (r - b'))
    (kx : ∀ E q G', PX E q G' → wk_T w mX17_typed j 11 [] G' (r - b') E q)
    : wk_V w mX17_typed j 8 [] [vR sa0] G r := by
  have hk : hp_kd G o2 = 13 ∨ hp_kd G o2 = 14 ∨ hp_kd G o2 = 15 ∨ hp_kd G o2 = 16 ∨ hp_kd G o2 = 17 ∨ hp_kd G o2 = 18 ∨ hp_kd G o2 = 19 ∨ hp_kd G o2 = 20 ∨ hp_kd G o2 = 21 := by omega
  rcases hk with h | h | h | h | h | h | h | h | h
  · exact blX17_typed_8_k13 hc1 e2 h hC hdp hb kr kx
  · exact blX17_typed_8_k14 hc1 e2 h hC hdp hb kr kx
  · exact blX17_typed_8_k15 hc1 e2 h hC hdp hb kr kx
  · exact blX17_typed_8_k16 hc1 e2 h hC hdp hb kr kx
  · exact blX17_typed_8_k17 hc1 e2 h hC hdp hb kr kx
  · exact blX17_typed_8_k18 hc1 e2 h hC hdp hb kr kx
  · exact blX17_typed_8_k19 hc1 e2 h hC hdp hb kr kx
  · exact blX17_typed_8_k20 hc1 e2 h hC hdp hb kr kx
  · exact blX17_typed_8_k21 hc1 e2 h hC hdp hb kr kx
theorem vkX17_clocked_8 {w : WD} {j : JB} {r : Nat} {G : GH} {a0 : Nat} {sa0 : Option Nat} {o2 : Nat} {d' b' : Nat} {P : Option WV → GH → Prop} {PX : String → Nat → GH → Prop}
    (hc1 : ∀ a, sa0 = some a → hp_kd G a ≠ 0 ∧ hp_kd G a < 28 ∧ hp_sub (hp_kd G a) "StreamNodes$Expression")
    (e2 : sa0 = some o2)
    (hkr : 13 ≤ hp_kd G o2 ∧ hp_kd G o2 ≤ 21)
    (hC : wk_C w mX11_clock d' b' [vR (some o2)] G P PX)
    (hdp : d' + 1 ≤ j.1)
    (hb : b' ≤ r)
    (kr : ∀ v G', P v G' → wk_V w mX17_clocked j 14 [(0, vR (some a0))] (v.toList ++ []) G' (r - b'))
    (kx : ∀ E q G', PX E q G' → wk_T w mX17_clocked j 11 [(0, vR (some a0))] G' (r - b') E q)
    : wk_V w mX17_clocked j 8 [(0, vR (some a0))] [vR sa0] G r := by
  have hk : hp_kd G o2 = 13 ∨ hp_kd G o2 = 14 ∨ hp_kd G o2 = 15 ∨ hp_kd G o2 = 16 ∨ hp_kd G o2 = 17 ∨ hp_kd G o2 = 18 ∨ hp_kd G o2 = 19 ∨ hp_kd G o2 = 20 ∨ hp_kd G o2 = 21 := by omega
  rcases hk with h | h | h | h | h | h | h | h | h
  · exact blX17_clocked_8_k13 hc1 e2 h hC hdp hb kr kx
  · exact blX17_clocked_8_k14 hc1 e2 h hC hdp hb kr kx
  · exact blX17_clocked_8_k15 hc1 e2 h hC hdp hb kr kx
  · exact blX17_clocked_8_k16 hc1 e2 h hC hdp hb kr kx
  · exact blX17_clocked_8_k17 hc1 e2 h hC hdp hb kr kx
  · exact blX17_clocked_8_k18 hc1 e2 h hC hdp hb kr kx
  · exact blX17_clocked_8_k19 hc1 e2 h hC hdp hb kr kx
  · exact blX17_clocked_8_k20 hc1 e2 h hC hdp hb kr kx
  · exact blX17_clocked_8_k21 hc1 e2 h hC hdp hb kr kx
theorem vkX17_settle_19 {w : WD} {j : JB} {r : Nat} {G : GH} {sa0 : Option Nat} {sa1 : Option Nat} {o2 : Nat} {o4 : Nat} {d' b' : Nat} {P : Option WV → GH → Prop} {PX : String → Nat → GH → Prop}
    (hc1 : ∀ a, sa1 = some a → hp_kd G a ≠ 0 ∧ hp_kd G a < 28 ∧ hp_sub (hp_kd G a) "StreamNodes$Expression")
    (e2 : sa1 = some o2)
    (hk3 : 13 ≤ hp_kd G o2 ∧ hp_kd G o2 ≤ 21)
    (e4 : sa0 = some o4)
    (hkr : 13 ≤ hp_kd G o4 ∧ hp_kd G o4 ≤ 21)
    (hC : wk_C w (vt_settle (hp_kd G o4)) d' b' [vR (some o4), vR (hp_r G o2 1)] G P PX)
    (hdp : d' + 1 ≤ j.1)
    (hb : b' ≤ r)
    (kr : ∀ v G', P v G' → wk_V w mX17_settle j 28 [] (v.toList ++ []) G' (r - b'))
    (kx : ∀ E q G', PX E q G' → wk_T w mX17_settle j 25 [] G' (r - b') E q)
    : wk_V w mX17_settle j 19 [] [vR sa1, vR sa0] G r := by
  have hk : hp_kd G o4 = 13 ∨ hp_kd G o4 = 14 ∨ hp_kd G o4 = 15 ∨ hp_kd G o4 = 16 ∨ hp_kd G o4 = 17 ∨ hp_kd G o4 = 18 ∨ hp_kd G o4 = 19 ∨ hp_kd G o4 = 20 ∨ hp_kd G o4 = 21 := by omega
  rcases hk with h | h | h | h | h | h | h | h | h
  · rw [h, vt_settle_13] at hC
    exact blX17_settle_19_k13 hc1 e2 hk3 e4 h hC hdp hb kr kx
  · rw [h, vt_settle_14] at hC
    exact blX17_settle_19_k14 hc1 e2 hk3 e4 h hC hdp hb kr kx
  · rw [h, vt_settle_15] at hC
    exact blX17_settle_19_k15 hc1 e2 hk3 e4 h hC hdp hb kr kx
  · rw [h, vt_settle_16] at hC
    exact blX17_settle_19_k16 hc1 e2 hk3 e4 h hC hdp hb kr kx
  · rw [h, vt_settle_17] at hC
    exact blX17_settle_19_k17 hc1 e2 hk3 e4 h hC hdp hb kr kx
  · rw [h, vt_settle_18] at hC
    exact blX17_settle_19_k18 hc1 e2 hk3 e4 h hC hdp hb kr kx
  · rw [h, vt_settle_19] at hC
    exact blX17_settle_19_k19 hc1 e2 hk3 e4 h hC hdp hb kr kx
  · rw [h, vt_settle_20] at hC
    exact blX17_settle_19_k20 hc1 e2 hk3 e4 h hC hdp hb kr kx
  · rw [h, vt_settle_21] at hC
    exact blX17_settle_19_k21 hc1 e2 hk3 e4 h hC hdp hb kr kx
theorem vkX17_causes_8 {w : WD} {j : JB} {r : Nat} {G : GH} {a0 : Nat} {a1 : Option Nat} {a2 : Option Nat} {sa0 : Option Nat} {o2 : Nat} {d' b' : Nat} {P : Option WV → GH → Prop} {PX : String → Nat → GH → Prop}
    (hc1 : ∀ a, sa0 = some a → hp_kd G a ≠ 0 ∧ hp_kd G a < 28 ∧ hp_sub (hp_kd G a) "StreamNodes$Expression")
    (e2 : sa0 = some o2)
    (hkr : 13 ≤ hp_kd G o2 ∧ hp_kd G o2 ≤ 21)
    (hC : wk_C w (vt_causes (hp_kd G o2)) d' b' [vR (some o2), vR a1, vR a2] G P PX)
    (hdp : d' + 1 ≤ j.1)
    (hb : b' ≤ r)
    (kr : ∀ v G', P v G' → wk_V w mX17_causes j 16 [(0, vR (some a0)), (1, vR a1), (2, vR a2)] (v.toList ++ []) G' (r - b'))
    (kx : ∀ E q G', PX E q G' → wk_T w mX17_causes j 13 [(0, vR (some a0)), (1, vR a1), (2, vR a2)] G' (r - b') E q)
    : wk_V w mX17_causes j 8 [(0, vR (some a0)), (1, vR a1), (2, vR a2)] [vR sa0] G r := by
  have hk : hp_kd G o2 = 13 ∨ hp_kd G o2 = 14 ∨ hp_kd G o2 = 15 ∨ hp_kd G o2 = 16 ∨ hp_kd G o2 = 17 ∨ hp_kd G o2 = 18 ∨ hp_kd G o2 = 19 ∨ hp_kd G o2 = 20 ∨ hp_kd G o2 = 21 := by omega
  rcases hk with h | h | h | h | h | h | h | h | h
  · rw [h, vt_causes_13] at hC
    exact blX17_causes_8_k13 hc1 e2 h hC hdp hb kr kx
  · rw [h, vt_causes_14] at hC
    exact blX17_causes_8_k14 hc1 e2 h hC hdp hb kr kx
  · rw [h, vt_causes_15] at hC
    exact blX17_causes_8_k15 hc1 e2 h hC hdp hb kr kx
  · rw [h, vt_causes_16] at hC
    exact blX17_causes_8_k16 hc1 e2 h hC hdp hb kr kx
  · rw [h, vt_causes_17] at hC
    exact blX17_causes_8_k17 hc1 e2 h hC hdp hb kr kx
  · rw [h, vt_causes_18] at hC
    exact blX17_causes_8_k18 hc1 e2 h hC hdp hb kr kx
  · rw [h, vt_causes_19] at hC
    exact blX17_causes_8_k19 hc1 e2 h hC hdp hb kr kx
  · rw [h, vt_causes_20] at hC
    exact blX17_causes_8_k20 hc1 e2 h hC hdp hb kr kx
  · rw [h, vt_causes_21] at hC
    exact blX17_causes_8_k21 hc1 e2 h hC hdp hb kr kx
theorem vkX20_typed_8 {w : WD} {j : JB} {r : Nat} {G : GH} {sa0 : Option Nat} {o2 : Nat} {d' b' : Nat} {P : Option WV → GH → Prop} {PX : String → Nat → GH → Prop}
    (hc1 : ∀ a, sa0 = some a → hp_kd G a ≠ 0 ∧ hp_kd G a < 28 ∧ hp_sub (hp_kd G a) "StreamNodes$Expression")
    (e2 : sa0 = some o2)
    (hkr : 13 ≤ hp_kd G o2 ∧ hp_kd G o2 ≤ 21)
    (hC : wk_C w mX11_type d' b' [vR (some o2)] G P PX)
    (hdp : d' + 1 ≤ j.1)
    (hb : b' ≤ r)
    (kr : ∀ v G', P v G' → wk_V w mX20_typed j 14 [] (v.toList ++ []) G' (r - b'))
    (kx : ∀ E q G', PX E q G' → wk_T w mX20_typed j 11 [] G' (r - b') E q)
    : wk_V w mX20_typed j 8 [] [vR sa0] G r := by
  have hk : hp_kd G o2 = 13 ∨ hp_kd G o2 = 14 ∨ hp_kd G o2 = 15 ∨ hp_kd G o2 = 16 ∨ hp_kd G o2 = 17 ∨ hp_kd G o2 = 18 ∨ hp_kd G o2 = 19 ∨ hp_kd G o2 = 20 ∨ hp_kd G o2 = 21 := by omega
  rcases hk with h | h | h | h | h | h | h | h | h
  · exact blX20_typed_8_k13 hc1 e2 h hC hdp hb kr kx
  · exact blX20_typed_8_k14 hc1 e2 h hC hdp hb kr kx
  · exact blX20_typed_8_k15 hc1 e2 h hC hdp hb kr kx
  · exact blX20_typed_8_k16 hc1 e2 h hC hdp hb kr kx
  · exact blX20_typed_8_k17 hc1 e2 h hC hdp hb kr kx
  · exact blX20_typed_8_k18 hc1 e2 h hC hdp hb kr kx
  · exact blX20_typed_8_k19 hc1 e2 h hC hdp hb kr kx
  · exact blX20_typed_8_k20 hc1 e2 h hC hdp hb kr kx
  · exact blX20_typed_8_k21 hc1 e2 h hC hdp hb kr kx
theorem vkX20_clocked_8 {w : WD} {j : JB} {r : Nat} {G : GH} {a0 : Nat} {sa0 : Option Nat} {o2 : Nat} {d' b' : Nat} {P : Option WV → GH → Prop} {PX : String → Nat → GH → Prop}
    (hc1 : ∀ a, sa0 = some a → hp_kd G a ≠ 0 ∧ hp_kd G a < 28 ∧ hp_sub (hp_kd G a) "StreamNodes$Expression")
    (e2 : sa0 = some o2)
    (hkr : 13 ≤ hp_kd G o2 ∧ hp_kd G o2 ≤ 21)
    (hC : wk_C w mX11_clock d' b' [vR (some o2)] G P PX)
    (hdp : d' + 1 ≤ j.1)
    (hb : b' ≤ r)
    (kr : ∀ v G', P v G' → wk_V w mX20_clocked j 14 [(0, vR (some a0))] (v.toList ++ []) G' (r - b'))
    (kx : ∀ E q G', PX E q G' → wk_T w mX20_clocked j 11 [(0, vR (some a0))] G' (r - b') E q)
    : wk_V w mX20_clocked j 8 [(0, vR (some a0))] [vR sa0] G r := by
  have hk : hp_kd G o2 = 13 ∨ hp_kd G o2 = 14 ∨ hp_kd G o2 = 15 ∨ hp_kd G o2 = 16 ∨ hp_kd G o2 = 17 ∨ hp_kd G o2 = 18 ∨ hp_kd G o2 = 19 ∨ hp_kd G o2 = 20 ∨ hp_kd G o2 = 21 := by omega
  rcases hk with h | h | h | h | h | h | h | h | h
  · exact blX20_clocked_8_k13 hc1 e2 h hC hdp hb kr kx
  · exact blX20_clocked_8_k14 hc1 e2 h hC hdp hb kr kx
  · exact blX20_clocked_8_k15 hc1 e2 h hC hdp hb kr kx
  · exact blX20_clocked_8_k16 hc1 e2 h hC hdp hb kr kx
  · exact blX20_clocked_8_k17 hc1 e2 h hC hdp hb kr kx
  · exact blX20_clocked_8_k18 hc1 e2 h hC hdp hb kr kx
  · exact blX20_clocked_8_k19 hc1 e2 h hC hdp hb kr kx
  · exact blX20_clocked_8_k20 hc1 e2 h hC hdp hb kr kx
  · exact blX20_clocked_8_k21 hc1 e2 h hC hdp hb kr kx
theorem vkX20_settle_8 {w : WD} {j : JB} {r : Nat} {G : GH} {a0 : Nat} {sa0 : Option Nat} {o3 : Nat} {o5 : Nat} {d' b' : Nat} {P : Option WV → GH → Prop} {PX : String → Nat → GH → Prop}
    (hc1 : ∀ a, sa0 = some a → hp_kd G a ≠ 0 ∧ hp_kd G a < 28 ∧ hp_sub (hp_kd G a) "StreamNodes$Expression")
    (hk2 : hp_kd G a0 = 19)
    (e3 : (hp_r G a0 5) = some o3)
    (hk4 : hp_kd G o3 = 6)
    (e5 : sa0 = some o5)
    (hkr : 13 ≤ hp_kd G o5 ∧ hp_kd G o5 ≤ 21)
    (hC : wk_C w (vt_settle (hp_kd G o5)) d' b' [vR (some o5), vR (hp_r G o3 4)] G P PX)
    (hdp : d' + 1 ≤ j.1)
    (hb : b' ≤ r)
    (kr : ∀ v G', P v G' → wk_V w mX20_settle j 21 [] (v.toList ++ []) G' (r - b'))
    (kx : ∀ E q G', PX E q G' → wk_T w mX20_settle j 18 [(0, vR (some a0))] G' (r - b') E q)
    : wk_V w mX20_settle j 8 [(0, vR (some a0))] [vR sa0] G r := by
  have hk : hp_kd G o5 = 13 ∨ hp_kd G o5 = 14 ∨ hp_kd G o5 = 15 ∨ hp_kd G o5 = 16 ∨ hp_kd G o5 = 17 ∨ hp_kd G o5 = 18 ∨ hp_kd G o5 = 19 ∨ hp_kd G o5 = 20 ∨ hp_kd G o5 = 21 := by omega
  rcases hk with h | h | h | h | h | h | h | h | h
  · rw [h, vt_settle_13] at hC
    exact blX20_settle_8_k13 hc1 hk2 e3 hk4 e5 h hC hdp hb kr kx
  · rw [h, vt_settle_14] at hC
    exact blX20_settle_8_k14 hc1 hk2 e3 hk4 e5 h hC hdp hb kr kx
  · rw [h, vt_settle_15] at hC
    exact blX20_settle_8_k15 hc1 hk2 e3 hk4 e5 h hC hdp hb kr kx
  · rw [h, vt_settle_16] at hC
    exact blX20_settle_8_k16 hc1 hk2 e3 hk4 e5 h hC hdp hb kr kx
  · rw [h, vt_settle_17] at hC
    exact blX20_settle_8_k17 hc1 hk2 e3 hk4 e5 h hC hdp hb kr kx
  · rw [h, vt_settle_18] at hC
    exact blX20_settle_8_k18 hc1 hk2 e3 hk4 e5 h hC hdp hb kr kx
  · rw [h, vt_settle_19] at hC
    exact blX20_settle_8_k19 hc1 hk2 e3 hk4 e5 h hC hdp hb kr kx
  · rw [h, vt_settle_20] at hC
    exact blX20_settle_8_k20 hc1 hk2 e3 hk4 e5 h hC hdp hb kr kx
  · rw [h, vt_settle_21] at hC
    exact blX20_settle_8_k21 hc1 hk2 e3 hk4 e5 h hC hdp hb kr kx
theorem vkX20_causes_8 {w : WD} {j : JB} {r : Nat} {G : GH} {a0 : Nat} {a1 : Option Nat} {a2 : Option Nat} {sa0 : Option Nat} {o2 : Nat} {d' b' : Nat} {P : Option WV → GH → Prop} {PX : String → Nat → GH → Prop}
    (hc1 : ∀ a, sa0 = some a → hp_kd G a ≠ 0 ∧ hp_kd G a < 28 ∧ hp_sub (hp_kd G a) "StreamNodes$Expression")
    (e2 : sa0 = some o2)
    (hkr : 13 ≤ hp_kd G o2 ∧ hp_kd G o2 ≤ 21)
    (hC : wk_C w (vt_causes (hp_kd G o2)) d' b' [vR (some o2), vR a1, vR a2] G P PX)
    (hdp : d' + 1 ≤ j.1)
    (hb : b' ≤ r)
    (kr : ∀ v G', P v G' → wk_V w mX20_causes j 16 [(0, vR (some a0)), (1, vR a1), (2, vR a2)] (v.toList ++ []) G' (r - b'))
    (kx : ∀ E q G', PX E q G' → wk_T w mX20_causes j 13 [(0, vR (some a0)), (1, vR a1), (2, vR a2)] G' (r - b') E q)
    : wk_V w mX20_causes j 8 [(0, vR (some a0)), (1, vR a1), (2, vR a2)] [vR sa0] G r := by
  have hk : hp_kd G o2 = 13 ∨ hp_kd G o2 = 14 ∨ hp_kd G o2 = 15 ∨ hp_kd G o2 = 16 ∨ hp_kd G o2 = 17 ∨ hp_kd G o2 = 18 ∨ hp_kd G o2 = 19 ∨ hp_kd G o2 = 20 ∨ hp_kd G o2 = 21 := by omega
  rcases hk with h | h | h | h | h | h | h | h | h
  · rw [h, vt_causes_13] at hC
    exact blX20_causes_8_k13 hc1 e2 h hC hdp hb kr kx
  · rw [h, vt_causes_14] at hC
    exact blX20_causes_8_k14 hc1 e2 h hC hdp hb kr kx
  · rw [h, vt_causes_15] at hC
    exact blX20_causes_8_k15 hc1 e2 h hC hdp hb kr kx
  · rw [h, vt_causes_16] at hC
    exact blX20_causes_8_k16 hc1 e2 h hC hdp hb kr kx
  · rw [h, vt_causes_17] at hC
    exact blX20_causes_8_k17 hc1 e2 h hC hdp hb kr kx
  · rw [h, vt_causes_18] at hC
    exact blX20_causes_8_k18 hc1 e2 h hC hdp hb kr kx
  · rw [h, vt_causes_19] at hC
    exact blX20_causes_8_k19 hc1 e2 h hC hdp hb kr kx
  · rw [h, vt_causes_20] at hC
    exact blX20_causes_8_k20 hc1 e2 h hC hdp hb kr kx
  · rw [h, vt_causes_21] at hC
    exact blX20_causes_8_k21 hc1 e2 h hC hdp hb kr kx
theorem vkX21_typed_8 {w : WD} {j : JB} {r : Nat} {G : GH} {a0 : Nat} {sa0 : Option Nat} {o2 : Nat} {d' b' : Nat} {P : Option WV → GH → Prop} {PX : String → Nat → GH → Prop}
    (hc1 : ∀ a, sa0 = some a → hp_kd G a ≠ 0 ∧ hp_kd G a < 28 ∧ hp_sub (hp_kd G a) "StreamNodes$Expression")
    (e2 : sa0 = some o2)
    (hkr : 13 ≤ hp_kd G o2 ∧ hp_kd G o2 ≤ 21)
    (hC : wk_C w mX11_type d' b' [vR (some o2)] G P PX)
    (hdp : d' + 1 ≤ j.1)
    (hb : b' ≤ r)
    (kr : ∀ v G', P v G' → wk_V w mX21_typed j 14 [(0, vR (some a0))] (v.toList ++ []) G' (r - b'))
    (kx : ∀ E q G', PX E q G' → wk_T w mX21_typed j 11 [(0, vR (some a0))] G' (r - b') E q)
    : wk_V w mX21_typed j 8 [(0, vR (some a0))] [vR sa0] G r := by
  have hk : hp_kd G o2 = 13 ∨ hp_kd G o2 = 14 ∨ hp_kd G o2 = 15 ∨ hp_kd G o2 = 16 ∨ hp_kd G o2 = 17 ∨ hp_kd G o2 = 18 ∨ hp_kd G o2 = 19 ∨ hp_kd G o2 = 20 ∨ hp_kd G o2 = 21 := by omega
  rcases hk with h | h | h | h | h | h | h | h | h
  · exact blX21_typed_8_k13 hc1 e2 h hC hdp hb kr kx
  · exact blX21_typed_8_k14 hc1 e2 h hC hdp hb kr kx
  · exact blX21_typed_8_k15 hc1 e2 h hC hdp hb kr kx
  · exact blX21_typed_8_k16 hc1 e2 h hC hdp hb kr kx
  · exact blX21_typed_8_k17 hc1 e2 h hC hdp hb kr kx
  · exact blX21_typed_8_k18 hc1 e2 h hC hdp hb kr kx
  · exact blX21_typed_8_k19 hc1 e2 h hC hdp hb kr kx
  · exact blX21_typed_8_k20 hc1 e2 h hC hdp hb kr kx
  · exact blX21_typed_8_k21 hc1 e2 h hC hdp hb kr kx
theorem vkX21_typed_23 {w : WD} {j : JB} {r : Nat} {G : GH} {a0 : Nat} {a1 : Option Nat} {sa0 : Option Nat} {o2 : Nat} {d' b' : Nat} {P : Option WV → GH → Prop} {PX : String → Nat → GH → Prop}
    (hc1 : ∀ a, sa0 = some a → hp_kd G a ≠ 0 ∧ hp_kd G a < 28 ∧ hp_sub (hp_kd G a) "StreamNodes$Expression")
    (e2 : sa0 = some o2)
    (hkr : 13 ≤ hp_kd G o2 ∧ hp_kd G o2 ≤ 21)
    (hC : wk_C w mX11_type d' b' [vR (some o2)] G P PX)
    (hdp : d' + 1 ≤ j.1)
    (hb : b' ≤ r)
    (kr : ∀ v G', P v G' → wk_V w mX21_typed j 29 [(0, vR (some a0)), (1, vR a1)] (v.toList ++ []) G' (r - b'))
    (kx : ∀ E q G', PX E q G' → wk_T w mX21_typed j 26 [(0, vR (some a0)), (1, vR a1)] G' (r - b') E q)
    : wk_V w mX21_typed j 23 [(0, vR (some a0)), (1, vR a1)] [vR sa0] G r := by
  have hk : hp_kd G o2 = 13 ∨ hp_kd G o2 = 14 ∨ hp_kd G o2 = 15 ∨ hp_kd G o2 = 16 ∨ hp_kd G o2 = 17 ∨ hp_kd G o2 = 18 ∨ hp_kd G o2 = 19 ∨ hp_kd G o2 = 20 ∨ hp_kd G o2 = 21 := by omega
  rcases hk with h | h | h | h | h | h | h | h | h
  · exact blX21_typed_23_k13 hc1 e2 h hC hdp hb kr kx
  · exact blX21_typed_23_k14 hc1 e2 h hC hdp hb kr kx
  · exact blX21_typed_23_k15 hc1 e2 h hC hdp hb kr kx
  · exact blX21_typed_23_k16 hc1 e2 h hC hdp hb kr kx
  · exact blX21_typed_23_k17 hc1 e2 h hC hdp hb kr kx
  · exact blX21_typed_23_k18 hc1 e2 h hC hdp hb kr kx
  · exact blX21_typed_23_k19 hc1 e2 h hC hdp hb kr kx
  · exact blX21_typed_23_k20 hc1 e2 h hC hdp hb kr kx
  · exact blX21_typed_23_k21 hc1 e2 h hC hdp hb kr kx
theorem vkX21_causes_8 {w : WD} {j : JB} {r : Nat} {G : GH} {a0 : Nat} {a1 : Option Nat} {a2 : Option Nat} {sa0 : Option Nat} {o2 : Nat} {d' b' : Nat} {P : Option WV → GH → Prop} {PX : String → Nat → GH → Prop}
    (hc1 : ∀ a, sa0 = some a → hp_kd G a ≠ 0 ∧ hp_kd G a < 28 ∧ hp_sub (hp_kd G a) "StreamNodes$Expression")
    (e2 : sa0 = some o2)
    (hkr : 13 ≤ hp_kd G o2 ∧ hp_kd G o2 ≤ 21)
    (hC : wk_C w (vt_causes (hp_kd G o2)) d' b' [vR (some o2), vR a1, vR a2] G P PX)
    (hdp : d' + 1 ≤ j.1)
    (hb : b' ≤ r)
    (kr : ∀ v G', P v G' → wk_V w mX21_causes j 16 [(0, vR (some a0)), (1, vR a1), (2, vR a2)] (v.toList ++ []) G' (r - b'))
    (kx : ∀ E q G', PX E q G' → wk_T w mX21_causes j 13 [(0, vR (some a0)), (1, vR a1), (2, vR a2)] G' (r - b') E q)
    : wk_V w mX21_causes j 8 [(0, vR (some a0)), (1, vR a1), (2, vR a2)] [vR sa0] G r := by
  have hk : hp_kd G o2 = 13 ∨ hp_kd G o2 = 14 ∨ hp_kd G o2 = 15 ∨ hp_kd G o2 = 16 ∨ hp_kd G o2 = 17 ∨ hp_kd G o2 = 18 ∨ hp_kd G o2 = 19 ∨ hp_kd G o2 = 20 ∨ hp_kd G o2 = 21 := by omega
  rcases hk with h | h | h | h | h | h | h | h | h
  · rw [h, vt_causes_13] at hC
    exact blX21_causes_8_k13 hc1 e2 h hC hdp hb kr kx
  · rw [h, vt_causes_14] at hC
    exact blX21_causes_8_k14 hc1 e2 h hC hdp hb kr kx
  · rw [h, vt_causes_15] at hC
    exact blX21_causes_8_k15 hc1 e2 h hC hdp hb kr kx
  · rw [h, vt_causes_16] at hC
    exact blX21_causes_8_k16 hc1 e2 h hC hdp hb kr kx
  · rw [h, vt_causes_17] at hC
    exact blX21_causes_8_k17 hc1 e2 h hC hdp hb kr kx
  · rw [h, vt_causes_18] at hC
    exact blX21_causes_8_k18 hc1 e2 h hC hdp hb kr kx
  · rw [h, vt_causes_19] at hC
    exact blX21_causes_8_k19 hc1 e2 h hC hdp hb kr kx
  · rw [h, vt_causes_20] at hC
    exact blX21_causes_8_k20 hc1 e2 h hC hdp hb kr kx
  · rw [h, vt_causes_21] at hC
    exact blX21_causes_8_k21 hc1 e2 h hC hdp hb kr kx
theorem vkX21_causes_31 {w : WD} {j : JB} {r : Nat} {G : GH} {a1 : Option Nat} {a2 : Option Nat} {sa0 : Option Nat} {o2 : Nat} {d' b' : Nat} {P : Option WV → GH → Prop} {PX : String → Nat → GH → Prop}
    (hc1 : ∀ a, sa0 = some a → hp_kd G a ≠ 0 ∧ hp_kd G a < 28 ∧ hp_sub (hp_kd G a) "StreamNodes$Expression")
    (e2 : sa0 = some o2)
    (hkr : 13 ≤ hp_kd G o2 ∧ hp_kd G o2 ≤ 21)
    (hC : wk_C w (vt_causes (hp_kd G o2)) d' b' [vR (some o2), vR a1, vR a2] G P PX)
    (hdp : d' + 1 ≤ j.1)
    (hb : b' ≤ r)
    (kr : ∀ v G', P v G' → wk_V w mX21_causes j 39 [] (v.toList ++ []) G' (r - b'))
    (kx : ∀ E q G', PX E q G' → wk_T w mX21_causes j 36 [(1, vR a1), (2, vR a2)] G' (r - b') E q)
    : wk_V w mX21_causes j 31 [(1, vR a1), (2, vR a2)] [vR sa0] G r := by
  have hk : hp_kd G o2 = 13 ∨ hp_kd G o2 = 14 ∨ hp_kd G o2 = 15 ∨ hp_kd G o2 = 16 ∨ hp_kd G o2 = 17 ∨ hp_kd G o2 = 18 ∨ hp_kd G o2 = 19 ∨ hp_kd G o2 = 20 ∨ hp_kd G o2 = 21 := by omega
  rcases hk with h | h | h | h | h | h | h | h | h
  · rw [h, vt_causes_13] at hC
    exact blX21_causes_31_k13 hc1 e2 h hC hdp hb kr kx
  · rw [h, vt_causes_14] at hC
    exact blX21_causes_31_k14 hc1 e2 h hC hdp hb kr kx
  · rw [h, vt_causes_15] at hC
    exact blX21_causes_31_k15 hc1 e2 h hC hdp hb kr kx
  · rw [h, vt_causes_16] at hC
    exact blX21_causes_31_k16 hc1 e2 h hC hdp hb kr kx
  · rw [h, vt_causes_17] at hC
    exact blX21_causes_31_k17 hc1 e2 h hC hdp hb kr kx
  · rw [h, vt_causes_18] at hC
    exact blX21_causes_31_k18 hc1 e2 h hC hdp hb kr kx
  · rw [h, vt_causes_19] at hC
    exact blX21_causes_31_k19 hc1 e2 h hC hdp hb kr kx
  · rw [h, vt_causes_20] at hC
    exact blX21_causes_31_k20 hc1 e2 h hC hdp hb kr kx
  · rw [h, vt_causes_21] at hC
    exact blX21_causes_31_k21 hc1 e2 h hC hdp hb kr kx
theorem vkX22_init_124 {w : WD} {j : JB} {r : Nat} {G : GH} {a0 : Nat} {a1 : Option Nat} {a4 : Option Nat} {x5 : Int32} {sa0 : Option Nat} {s1 : Int32} {sa2 : Option Nat} {o2 : Nat} {d' b' : Nat} {P : Option WV → GH → Prop} {PX : String → Nat → GH → Prop}
    (hc1 : ∀ a, sa2 = some a → hp_kd G a ≠ 0 ∧ hp_kd G a < 28 ∧ hp_sub (hp_kd G a) "StreamNodes$Memory")
    (e2 : sa2 = some o2)
    (hkr : hp_kd G o2 = 17 ∨ hp_kd G o2 = 18 ∨ hp_kd G o2 = 20)
    (hC : wk_C w (vt_places (hp_kd G o2)) d' b' [vR (some o2)] G P PX)
    (hdp : d' + 1 ≤ j.1)
    (hb : b' ≤ r)
    (kr : ∀ v G', P v G' → wk_V w mX22_init j 132 [(0, vR (some a0)), (1, vR a1), (4, vR a4), (5, vI x5)] (v.toList ++ [vI s1, vR sa0]) G' (r - b'))
    (kx : ∀ E q G', PX E q G' → wk_T w mX22_init j 127 [(0, vR (some a0)), (1, vR a1), (4, vR a4), (5, vI x5)] G' (r - b') E q)
    : wk_V w mX22_init j 124 [(0, vR (some a0)), (1, vR a1), (4, vR a4), (5, vI x5)] [vR sa2, vI s1, vR sa0] G r := by
  rcases hkr with h | h | h
  · rw [h, vt_places_17] at hC
    exact blX22_init_124_k17 hc1 e2 h hC hdp hb kr kx
  · rw [h, vt_places_18] at hC
    exact blX22_init_124_k18 hc1 e2 h hC hdp hb kr kx
  · rw [h, vt_places_20] at hC
    exact blX22_init_124_k20 hc1 e2 h hC hdp hb kr kx
theorem vkX22_keep_22 {w : WD} {j : JB} {r : Nat} {G : GH} {a0 : Nat} {x1 : Int32} {sa0 : Option Nat} {o3 : Nat} {o7 : Nat} {o9 : Nat} {d' b' : Nat} {P : Option WV → GH → Prop} {PX : String → Nat → GH → Prop}
    (hc1 : ∀ a, sa0 = some a → hp_kd G a ≠ 0 ∧ hp_kd G a < 28 ∧ hp_sub (hp_kd G a) "StreamNodes$Memory")
    (hk2 : hp_kd G a0 = 11)
    (e3 : (hp_r G a0 6) = some o3)
    (hi4 : vp_in x1 (hp_ln G o3))
    (hk5 : hp_kd G o3 = 28)
    (e7 : (hp_r G a0 3) = some o7)
    (hk8 : hp_kd G o7 = 10)
    (e9 : sa0 = some o9)
    (hkr : hp_kd G o9 = 17 ∨ hp_kd G o9 = 18 ∨ hp_kd G o9 = 20)
    (hC : wk_C w (vt_next (hp_kd G o9)) d' b' [vR (some o9), vR (some a0), vI (hp_i G o3 x1.toNatClampNeg), vR (hp_r G o7 2)] G P PX)
    (hdp : d' + 1 ≤ j.1)
    (hb : b' ≤ r)
    (kr : ∀ v G', P v G' → wk_V w mX22_keep j 44 [(0, vR (some a0)), (1, vI x1)] (v.toList ++ []) G' (r - b'))
    (kx : ∀ E q G', PX E q G' → wk_T w mX22_keep j 39 [(0, vR (some a0)), (1, vI x1)] G' (r - b') E q)
    : wk_V w mX22_keep j 22 [(0, vR (some a0)), (1, vI x1)] [vR sa0] G r := by
  rcases hkr with h | h | h
  · rw [h, vt_next_17] at hC
    exact blX22_keep_22_k17 hc1 hk2 e3 hi4 hk5 e7 hk8 e9 h hC hdp hb kr kx
  · rw [h, vt_next_18] at hC
    exact blX22_keep_22_k18 hc1 hk2 e3 hi4 hk5 e7 hk8 e9 h hC hdp hb kr kx
  · rw [h, vt_next_20] at hC
    exact blX22_keep_22_k20 hc1 hk2 e3 hi4 hk5 e7 hk8 e9 h hC hdp hb kr kx
theorem vkX3_finish_234 {w : WD} {j : JB} {r : Nat} {G : GH} {a0 : Nat} {x2 : Int32} {sa0 : Option Nat} {o4 : Nat} {o6 : Nat} {o8 : Nat} {d' b' : Nat} {P : Option WV → GH → Prop} {PX : String → Nat → GH → Prop}
    (hc1 : ∀ a, sa0 = some a → hp_kd G a ≠ 0 ∧ hp_kd G a < 28 ∧ hp_sub (hp_kd G a) "StreamNodes$Equation")
    (hk2 : hp_kd G a0 = 12)
    (e4 : (hp_r G a0 10) = some o4)
    (hk5 : hp_kd G o4 = 8)
    (e6 : sa0 = some o6)
    (hk7 : hp_kd G o6 = 7)
    (e8 : (hp_r G o6 1) = some o8)
    (hkr : 13 ≤ hp_kd G o8 ∧ hp_kd G o8 ≤ 21)
    (hC : wk_C w (vt_parts (hp_kd G o8)) d' b' [vR (some o8)] G P PX)
    (hdp : d' + 1 ≤ j.1)
    (hb : b' ≤ r)
    (kr : ∀ v G', P v G' → wk_V w mX3_finish j 261 [(0, vR (some a0)), (2, vI x2), (3, vR sa0)] (v.toList ++ [vI ((hp_i G o4 9) + (1 : Int32)), vI (1000000 : Int32), vR (hp_r G a0 10)]) G' (r - b'))
    (kx : ∀ E q G', PX E q G' → wk_T w mX3_finish j 258 [(0, vR (some a0)), (2, vI x2), (3, vR sa0)] G' (r - b') E q)
    : wk_V w mX3_finish j 234 [(0, vR (some a0)), (2, vI x2)] [vR sa0] G r := by
  have hk : hp_kd G o8 = 13 ∨ hp_kd G o8 = 14 ∨ hp_kd G o8 = 15 ∨ hp_kd G o8 = 16 ∨ hp_kd G o8 = 17 ∨ hp_kd G o8 = 18 ∨ hp_kd G o8 = 19 ∨ hp_kd G o8 = 20 ∨ hp_kd G o8 = 21 := by omega
  rcases hk with h | h | h | h | h | h | h | h | h
  · rw [h, vt_parts_13] at hC
    exact blX3_finish_234_k13 hc1 hk2 e4 hk5 e6 hk7 e8 h hC hdp hb kr kx
  · rw [h, vt_parts_14] at hC
    exact blX3_finish_234_k14 hc1 hk2 e4 hk5 e6 hk7 e8 h hC hdp hb kr kx
  · rw [h, vt_parts_15] at hC
    exact blX3_finish_234_k15 hc1 hk2 e4 hk5 e6 hk7 e8 h hC hdp hb kr kx
  · rw [h, vt_parts_16] at hC
    exact blX3_finish_234_k16 hc1 hk2 e4 hk5 e6 hk7 e8 h hC hdp hb kr kx
  · rw [h, vt_parts_17] at hC
    exact blX3_finish_234_k17 hc1 hk2 e4 hk5 e6 hk7 e8 h hC hdp hb kr kx
  · rw [h, vt_parts_18] at hC
    exact blX3_finish_234_k18 hc1 hk2 e4 hk5 e6 hk7 e8 h hC hdp hb kr kx
  · rw [h, vt_parts_19] at hC
    exact blX3_finish_234_k19 hc1 hk2 e4 hk5 e6 hk7 e8 h hC hdp hb kr kx
  · rw [h, vt_parts_20] at hC
    exact blX3_finish_234_k20 hc1 hk2 e4 hk5 e6 hk7 e8 h hC hdp hb kr kx
  · rw [h, vt_parts_21] at hC
    exact blX3_finish_234_k21 hc1 hk2 e4 hk5 e6 hk7 e8 h hC hdp hb kr kx
theorem vkX3_check_0 {w : WD} {j : JB} {r : Nat} {G : GH} {a0 : Nat} {a1 : Option Nat} {o1 : Nat} {o3 : Nat} {d' b' : Nat} {P : Option WV → GH → Prop} {PX : String → Nat → GH → Prop}
    (e1 : a1 = some o1)
    (hk2 : hp_kd G o1 = 7)
    (e3 : (hp_r G o1 1) = some o3)
    (hkr : 13 ≤ hp_kd G o3 ∧ hp_kd G o3 ≤ 21)
    (hC : wk_C w mX11_type d' b' [vR (some o3)] G P PX)
    (hdp : d' + 1 ≤ j.1)
    (hb : b' ≤ r)
    (kr : ∀ v G', P v G' → wk_V w mX3_check j 7 [(0, vR (some a0)), (1, vR a1)] (v.toList ++ []) G' (r - b'))
    (kx : ∀ E q G', PX E q G' → wk_T w mX3_check j 4 [(0, vR (some a0)), (1, vR a1)] G' (r - b') E q)
    : wk_V w mX3_check j 0 [(0, vR (some a0)), (1, vR a1)] [] G r := by
  have hk : hp_kd G o3 = 13 ∨ hp_kd G o3 = 14 ∨ hp_kd G o3 = 15 ∨ hp_kd G o3 = 16 ∨ hp_kd G o3 = 17 ∨ hp_kd G o3 = 18 ∨ hp_kd G o3 = 19 ∨ hp_kd G o3 = 20 ∨ hp_kd G o3 = 21 := by omega
  rcases hk with h | h | h | h | h | h | h | h | h
  · exact blX3_check_0_k13 e1 hk2 e3 h hC hdp hb kr kx
  · exact blX3_check_0_k14 e1 hk2 e3 h hC hdp hb kr kx
  · exact blX3_check_0_k15 e1 hk2 e3 h hC hdp hb kr kx
  · exact blX3_check_0_k16 e1 hk2 e3 h hC hdp hb kr kx
  · exact blX3_check_0_k17 e1 hk2 e3 h hC hdp hb kr kx
  · exact blX3_check_0_k18 e1 hk2 e3 h hC hdp hb kr kx
  · exact blX3_check_0_k19 e1 hk2 e3 h hC hdp hb kr kx
  · exact blX3_check_0_k20 e1 hk2 e3 h hC hdp hb kr kx
  · exact blX3_check_0_k21 e1 hk2 e3 h hC hdp hb kr kx
theorem vkX3_check_152 {w : WD} {j : JB} {r : Nat} {G : GH} {a0 : Nat} {a1 : Option Nat} {a4 : Option Nat} {o1 : Nat} {o3 : Nat} {d' b' : Nat} {P : Option WV → GH → Prop} {PX : String → Nat → GH → Prop}
    (e1 : a1 = some o1)
    (hk2 : hp_kd G o1 = 7)
    (e3 : (hp_r G o1 1) = some o3)
    (hkr : 13 ≤ hp_kd G o3 ∧ hp_kd G o3 ≤ 21)
    (hC : wk_C w mX11_clock d' b' [vR (some o3)] G P PX)
    (hdp : d' + 1 ≤ j.1)
    (hb : b' ≤ r)
    (kr : ∀ v G', P v G' → wk_V w mX3_check j 159 [(0, vR (some a0)), (1, vR a1), (4, vR a4)] (v.toList ++ []) G' (r - b'))
    (kx : ∀ E q G', PX E q G' → wk_T w mX3_check j 156 [(0, vR (some a0)), (1, vR a1), (4, vR a4)] G' (r - b') E q)
    : wk_V w mX3_check j 152 [(0, vR (some a0)), (1, vR a1), (4, vR a4)] [] G r := by
  have hk : hp_kd G o3 = 13 ∨ hp_kd G o3 = 14 ∨ hp_kd G o3 = 15 ∨ hp_kd G o3 = 16 ∨ hp_kd G o3 = 17 ∨ hp_kd G o3 = 18 ∨ hp_kd G o3 = 19 ∨ hp_kd G o3 = 20 ∨ hp_kd G o3 = 21 := by omega
  rcases hk with h | h | h | h | h | h | h | h | h
  · exact blX3_check_152_k13 e1 hk2 e3 h hC hdp hb kr kx
  · exact blX3_check_152_k14 e1 hk2 e3 h hC hdp hb kr kx
  · exact blX3_check_152_k15 e1 hk2 e3 h hC hdp hb kr kx
  · exact blX3_check_152_k16 e1 hk2 e3 h hC hdp hb kr kx
  · exact blX3_check_152_k17 e1 hk2 e3 h hC hdp hb kr kx
  · exact blX3_check_152_k18 e1 hk2 e3 h hC hdp hb kr kx
  · exact blX3_check_152_k19 e1 hk2 e3 h hC hdp hb kr kx
  · exact blX3_check_152_k20 e1 hk2 e3 h hC hdp hb kr kx
  · exact blX3_check_152_k21 e1 hk2 e3 h hC hdp hb kr kx
theorem vkX3_check_228 {w : WD} {j : JB} {r : Nat} {G : GH} {a1 : Option Nat} {a4 : Option Nat} {o1 : Nat} {o3 : Nat} {d' b' : Nat} {P : Option WV → GH → Prop} {PX : String → Nat → GH → Prop}
    (e1 : a1 = some o1)
    (hk2 : hp_kd G o1 = 7)
    (e3 : (hp_r G o1 1) = some o3)
    (hkr : 13 ≤ hp_kd G o3 ∧ hp_kd G o3 ≤ 21)
    (hC : wk_C w (vt_settle (hp_kd G o3)) d' b' [vR (some o3), vR a4] G P PX)
    (hdp : d' + 1 ≤ j.1)
    (hb : b' ≤ r)
    (kr : ∀ v G', P v G' → wk_V w mX3_check j 237 [] (v.toList ++ []) G' (r - b'))
    (kx : ∀ E q G', PX E q G' → wk_T w mX3_check j 234 [(1, vR a1), (4, vR a4)] G' (r - b') E q)
    : wk_V w mX3_check j 228 [(1, vR a1), (4, vR a4)] [] G r := by
  have hk : hp_kd G o3 = 13 ∨ hp_kd G o3 = 14 ∨ hp_kd G o3 = 15 ∨ hp_kd G o3 = 16 ∨ hp_kd G o3 = 17 ∨ hp_kd G o3 = 18 ∨ hp_kd G o3 = 19 ∨ hp_kd G o3 = 20 ∨ hp_kd G o3 = 21 := by omega
  rcases hk with h | h | h | h | h | h | h | h | h
  · rw [h, vt_settle_13] at hC
    exact blX3_check_228_k13 e1 hk2 e3 h hC hdp hb kr kx
  · rw [h, vt_settle_14] at hC
    exact blX3_check_228_k14 e1 hk2 e3 h hC hdp hb kr kx
  · rw [h, vt_settle_15] at hC
    exact blX3_check_228_k15 e1 hk2 e3 h hC hdp hb kr kx
  · rw [h, vt_settle_16] at hC
    exact blX3_check_228_k16 e1 hk2 e3 h hC hdp hb kr kx
  · rw [h, vt_settle_17] at hC
    exact blX3_check_228_k17 e1 hk2 e3 h hC hdp hb kr kx
  · rw [h, vt_settle_18] at hC
    exact blX3_check_228_k18 e1 hk2 e3 h hC hdp hb kr kx
  · rw [h, vt_settle_19] at hC
    exact blX3_check_228_k19 e1 hk2 e3 h hC hdp hb kr kx
  · rw [h, vt_settle_20] at hC
    exact blX3_check_228_k20 e1 hk2 e3 h hC hdp hb kr kx
  · rw [h, vt_settle_21] at hC
    exact blX3_check_228_k21 e1 hk2 e3 h hC hdp hb kr kx
