/-! Math.max, Math.min as rows (their class is none whose methods a contract can be had of) -/
set_option maxRecDepth 100000
section
variable {w : WD} {M : MI} {j : JB} {pc r : Nat} {lv : List (Nat × WV)} {st : List WV} {G : GH}
theorem wk_mmax {x y : Int32} {idx : Nat} (h1 : Cond.methodLink M.1.cls idx Lib.Math.max.name ∈ lw_all) (h2 : Cond.static Lib.Math.max.name ∈ lw_all) (h3 : Cond.initialized "java/lang/Math" ∈ lw_all) (h4 : Cond.code Lib.Math.max.name Lib.Math.max.code 2 (some .int) ∈ lw_all)
    (hcat : wk_ct st ≤ 8) (hdp : 1 ≤ j.1) (hd : decode M.2.1 pc = .ok (.invokestatic idx, 3)) (k : wk_V w M j (pc + 3) lv (vI (if x < y then y else x) :: st) G r) : wk_V w M j pc lv (vI y :: vI x :: st) G r :=
  fun p l e s m args below meth c X H locs cells slots ls hR hS hc hs hl => va_mmax X.1 X.2.1 (by rw [X.2.2.1]; exact hl.1.symm) X.2.2.2.2.2.1 (X.2.2.2.2.2.2.1 _ h1) (X.2.2.2.2.2.2.1 _ h2) (X.2.2.2.2.2.2.1 _ h3) (X.2.2.2.2.2.2.1 _ h4)
    hdp (by show _ ≤ 50 * j.1; have := wk_ct_eq (st := st); omega) (by show cells ≤ j.2.1; omega) (by show slots ≤ 12 * j.2.1; omega) hd (k p l e s m args below meth c X H locs cells slots ls hR hS hc hs hl)
theorem wk_mmin {x y : Int32} {idx : Nat} (h1 : Cond.methodLink M.1.cls idx Lib.Math.min.name ∈ lw_all) (h2 : Cond.static Lib.Math.min.name ∈ lw_all) (h3 : Cond.initialized "java/lang/Math" ∈ lw_all) (h4 : Cond.code Lib.Math.min.name Lib.Math.min.code 2 (some .int) ∈ lw_all)
    (hcat : wk_ct st ≤ 8) (hdp : 1 ≤ j.1) (hd : decode M.2.1 pc = .ok (.invokestatic idx, 3)) (k : wk_V w M j (pc + 3) lv (vI (if y < x then y else x) :: st) G r) : wk_V w M j pc lv (vI y :: vI x :: st) G r :=
  fun p l e s m args below meth c X H locs cells slots ls hR hS hc hs hl => va_mmin X.1 X.2.1 (by rw [X.2.2.1]; exact hl.1.symm) X.2.2.2.2.2.1 (X.2.2.2.2.2.2.1 _ h1) (X.2.2.2.2.2.2.1 _ h2) (X.2.2.2.2.2.2.1 _ h3) (X.2.2.2.2.2.2.1 _ h4)
    hdp (by show _ ≤ 50 * j.1; have := wk_ct_eq (st := st); omega) (by show cells ≤ j.2.1; omega) (by show slots ≤ 12 * j.2.1; omega) hd (k p l e s m args below meth c X H locs cells slots ls hR hS hc hs hl)
end
