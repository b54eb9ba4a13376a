/-! OWN LAYER, 4: rows, an instruction each; written by tools/gen_rows.py -/
section
variable {w : WD} {M : MI} {j : JB} {pc r : Nat} {lv : List (Nat × WV)} {st : List WV} {G : GH}
theorem wk_iconst {n : Int} (v : Int32) (hd : decode M.2.1 pc = .ok (.iconst n, 1)) (hv : Int32.ofInt n = v) (k : wk_V w M j (pc + 1) lv (vI v :: st) G r) : wk_V w M j pc lv (st) G r :=
  fun p l e s m args below meth c X H locs cells slots ls hR hS hc hs hl => lv_iconst X.1 X.2.1 hd hv (k p l e s m args below meth c X H locs cells slots ls hR hS hc hs hl)
theorem wk_bipush {n : Int} (v : Int32) (hd : decode M.2.1 pc = .ok (.bipush n, 2)) (hv : (Int8.ofInt n).toInt32 = v) (k : wk_V w M j (pc + 2) lv (vI v :: st) G r) : wk_V w M j pc lv (st) G r :=
  fun p l e s m args below meth c X H locs cells slots ls hR hS hc hs hl => lv_bipush X.1 X.2.1 hd hv (k p l e s m args below meth c X H locs cells slots ls hR hS hc hs hl)
theorem wk_sipush {n : Int} (v : Int32) (hd : decode M.2.1 pc = .ok (.sipush n, 3)) (hv : (Int16.ofInt n).toInt32 = v) (k : wk_V w M j (pc + 3) lv (vI v :: st) G r) : wk_V w M j pc lv (st) G r :=
  fun p l e s m args below meth c X H locs cells slots ls hR hS hc hs hl => lv_sipush X.1 X.2.1 hd hv (k p l e s m args below meth c X H locs cells slots ls hR hS hc hs hl)
theorem wk_lconst {n : Fin 2} (v : Int64) (hd : decode M.2.1 pc = .ok (.lconst n, 1)) (hv : Int64.ofNat (n : Nat) = v) (k : wk_V w M j (pc + 1) lv (vL v :: st) G r) : wk_V w M j pc lv (st) G r :=
  fun p l e s m args below meth c X H locs cells slots ls hR hS hc hs hl => lv_lconst X.1 X.2.1 hd hv (k p l e s m args below meth c X H locs cells slots ls hR hS hc hs hl)
theorem wk_iadd {x y : Int32} (hd : decode M.2.1 pc = .ok (.iadd, 1))  (k : wk_V w M j (pc + 1) lv (vI (x + y) :: st) G r) : wk_V w M j pc lv (vI y :: vI x :: st) G r :=
  fun p l e s m args below meth c X H locs cells slots ls hR hS hc hs hl => lv_iadd X.1 X.2.1 hd  (k p l e s m args below meth c X H locs cells slots ls hR hS hc hs hl)
theorem wk_isub {x y : Int32} (hd : decode M.2.1 pc = .ok (.isub, 1))  (k : wk_V w M j (pc + 1) lv (vI (x - y) :: st) G r) : wk_V w M j pc lv (vI y :: vI x :: st) G r :=
  fun p l e s m args below meth c X H locs cells slots ls hR hS hc hs hl => lv_isub X.1 X.2.1 hd  (k p l e s m args below meth c X H locs cells slots ls hR hS hc hs hl)
theorem wk_imul {x y : Int32} (hd : decode M.2.1 pc = .ok (.imul, 1))  (k : wk_V w M j (pc + 1) lv (vI (x * y) :: st) G r) : wk_V w M j pc lv (vI y :: vI x :: st) G r :=
  fun p l e s m args below meth c X H locs cells slots ls hR hS hc hs hl => lv_imul X.1 X.2.1 hd  (k p l e s m args below meth c X H locs cells slots ls hR hS hc hs hl)
theorem wk_iand {x y : Int32} (hd : decode M.2.1 pc = .ok (.iand, 1))  (k : wk_V w M j (pc + 1) lv (vI (x &&& y) :: st) G r) : wk_V w M j pc lv (vI y :: vI x :: st) G r :=
  fun p l e s m args below meth c X H locs cells slots ls hR hS hc hs hl => lv_iand X.1 X.2.1 hd  (k p l e s m args below meth c X H locs cells slots ls hR hS hc hs hl)
theorem wk_ior {x y : Int32} (hd : decode M.2.1 pc = .ok (.ior, 1))  (k : wk_V w M j (pc + 1) lv (vI (x ||| y) :: st) G r) : wk_V w M j pc lv (vI y :: vI x :: st) G r :=
  fun p l e s m args below meth c X H locs cells slots ls hR hS hc hs hl => lv_ior X.1 X.2.1 hd  (k p l e s m args below meth c X H locs cells slots ls hR hS hc hs hl)
theorem wk_ixor {x y : Int32} (hd : decode M.2.1 pc = .ok (.ixor, 1))  (k : wk_V w M j (pc + 1) lv (vI (x ^^^ y) :: st) G r) : wk_V w M j pc lv (vI y :: vI x :: st) G r :=
  fun p l e s m args below meth c X H locs cells slots ls hR hS hc hs hl => lv_ixor X.1 X.2.1 hd  (k p l e s m args below meth c X H locs cells slots ls hR hS hc hs hl)
theorem wk_ishl {x y : Int32} (hd : decode M.2.1 pc = .ok (.ishl, 1))  (k : wk_V w M j (pc + 1) lv (vI (x <<< (y &&& 31)) :: st) G r) : wk_V w M j pc lv (vI y :: vI x :: st) G r :=
  fun p l e s m args below meth c X H locs cells slots ls hR hS hc hs hl => lv_ishl X.1 X.2.1 hd  (k p l e s m args below meth c X H locs cells slots ls hR hS hc hs hl)
theorem wk_ishr {x y : Int32} (hd : decode M.2.1 pc = .ok (.ishr, 1))  (k : wk_V w M j (pc + 1) lv (vI (x >>> (y &&& 31)) :: st) G r) : wk_V w M j pc lv (vI y :: vI x :: st) G r :=
  fun p l e s m args below meth c X H locs cells slots ls hR hS hc hs hl => lv_ishr X.1 X.2.1 hd  (k p l e s m args below meth c X H locs cells slots ls hR hS hc hs hl)
theorem wk_idiv {x y : Int32} (hd : decode M.2.1 pc = .ok (.idiv, 1)) (hne : ¬ y = 0) (k : wk_V w M j (pc + 1) lv (vI (x / y) :: st) G r) : wk_V w M j pc lv (vI y :: vI x :: st) G r :=
  fun p l e s m args below meth c X H locs cells slots ls hR hS hc hs hl => lv_idiv X.1 X.2.1 hd hne (k p l e s m args below meth c X H locs cells slots ls hR hS hc hs hl)
theorem wk_irem {x y : Int32} (hd : decode M.2.1 pc = .ok (.irem, 1)) (hne : ¬ y = 0) (k : wk_V w M j (pc + 1) lv (vI (x - x / y * y) :: st) G r) : wk_V w M j pc lv (vI y :: vI x :: st) G r :=
  fun p l e s m args below meth c X H locs cells slots ls hR hS hc hs hl => lv_irem X.1 X.2.1 hd hne (k p l e s m args below meth c X H locs cells slots ls hR hS hc hs hl)
theorem wk_ineg {x : Int32} (hd : decode M.2.1 pc = .ok (.ineg, 1))  (k : wk_V w M j (pc + 1) lv (vI (-x) :: st) G r) : wk_V w M j pc lv (vI x :: st) G r :=
  fun p l e s m args below meth c X H locs cells slots ls hR hS hc hs hl => lv_ineg X.1 X.2.1 hd  (k p l e s m args below meth c X H locs cells slots ls hR hS hc hs hl)
theorem wk_iushr {x y : Int32} (hd : decode M.2.1 pc = .ok (.iushr, 1))  (k : wk_V w M j (pc + 1) lv (vI (x.toUInt32 >>> (y.toUInt32 &&& Int32.toUInt32 31)).toInt32 :: st) G r) : wk_V w M j pc lv (vI y :: vI x :: st) G r :=
  fun p l e s m args below meth c X H locs cells slots ls hR hS hc hs hl => lv_iushr X.1 X.2.1 hd rfl (k p l e s m args below meth c X H locs cells slots ls hR hS hc hs hl)
theorem wk_i2l {x : Int32} (hd : decode M.2.1 pc = .ok (.i2l, 1))  (k : wk_V w M j (pc + 1) lv (vL x.toInt64 :: st) G r) : wk_V w M j pc lv (vI x :: st) G r :=
  fun p l e s m args below meth c X H locs cells slots ls hR hS hc hs hl => lv_i2l X.1 X.2.1 hd rfl (k p l e s m args below meth c X H locs cells slots ls hR hS hc hs hl)
theorem wk_l2i {x : Int64} (hd : decode M.2.1 pc = .ok (.l2i, 1))  (k : wk_V w M j (pc + 1) lv (vI x.toInt32 :: st) G r) : wk_V w M j pc lv (vL x :: st) G r :=
  fun p l e s m args below meth c X H locs cells slots ls hR hS hc hs hl => lv_l2i X.1 X.2.1 hd rfl (k p l e s m args below meth c X H locs cells slots ls hR hS hc hs hl)
theorem wk_i2b {x : Int32} (hd : decode M.2.1 pc = .ok (.i2b, 1))  (k : wk_V w M j (pc + 1) lv (vI x.toInt8.toInt32 :: st) G r) : wk_V w M j pc lv (vI x :: st) G r :=
  fun p l e s m args below meth c X H locs cells slots ls hR hS hc hs hl => lv_i2b X.1 X.2.1 hd rfl (k p l e s m args below meth c X H locs cells slots ls hR hS hc hs hl)
theorem wk_i2c {x : Int32} (hd : decode M.2.1 pc = .ok (.i2c, 1))  (k : wk_V w M j (pc + 1) lv (vI (x.toUInt32 % 65536).toInt32 :: st) G r) : wk_V w M j pc lv (vI x :: st) G r :=
  fun p l e s m args below meth c X H locs cells slots ls hR hS hc hs hl => lv_i2c X.1 X.2.1 hd rfl (k p l e s m args below meth c X H locs cells slots ls hR hS hc hs hl)
theorem wk_ladd {x y : Int64} (hd : decode M.2.1 pc = .ok (.ladd, 1))  (k : wk_V w M j (pc + 1) lv (vL (x + y) :: st) G r) : wk_V w M j pc lv (vL y :: vL x :: st) G r :=
  fun p l e s m args below meth c X H locs cells slots ls hR hS hc hs hl => lv_ladd X.1 X.2.1 hd  (k p l e s m args below meth c X H locs cells slots ls hR hS hc hs hl)
theorem wk_lsub {x y : Int64} (hd : decode M.2.1 pc = .ok (.lsub, 1))  (k : wk_V w M j (pc + 1) lv (vL (x - y) :: st) G r) : wk_V w M j pc lv (vL y :: vL x :: st) G r :=
  fun p l e s m args below meth c X H locs cells slots ls hR hS hc hs hl => lv_lsub X.1 X.2.1 hd  (k p l e s m args below meth c X H locs cells slots ls hR hS hc hs hl)
theorem wk_land {x y : Int64} (hd : decode M.2.1 pc = .ok (.land, 1))  (k : wk_V w M j (pc + 1) lv (vL (x &&& y) :: st) G r) : wk_V w M j pc lv (vL y :: vL x :: st) G r :=
  fun p l e s m args below meth c X H locs cells slots ls hR hS hc hs hl => lv_land X.1 X.2.1 hd  (k p l e s m args below meth c X H locs cells slots ls hR hS hc hs hl)
theorem wk_lor {x y : Int64} (hd : decode M.2.1 pc = .ok (.lor, 1))  (k : wk_V w M j (pc + 1) lv (vL (x ||| y) :: st) G r) : wk_V w M j pc lv (vL y :: vL x :: st) G r :=
  fun p l e s m args below meth c X H locs cells slots ls hR hS hc hs hl => lv_lor X.1 X.2.1 hd  (k p l e s m args below meth c X H locs cells slots ls hR hS hc hs hl)
theorem wk_lxor {x y : Int64} (hd : decode M.2.1 pc = .ok (.lxor, 1))  (k : wk_V w M j (pc + 1) lv (vL (x ^^^ y) :: st) G r) : wk_V w M j pc lv (vL y :: vL x :: st) G r :=
  fun p l e s m args below meth c X H locs cells slots ls hR hS hc hs hl => lv_lxor X.1 X.2.1 hd  (k p l e s m args below meth c X H locs cells slots ls hR hS hc hs hl)
theorem wk_lshl {x : Int64} {y : Int32} (hd : decode M.2.1 pc = .ok (.lshl, 1))  (k : wk_V w M j (pc + 1) lv (vL (x <<< (y.toInt64 &&& 63)) :: st) G r) : wk_V w M j pc lv (vI y :: vL x :: st) G r :=
  fun p l e s m args below meth c X H locs cells slots ls hR hS hc hs hl => lv_lshl X.1 X.2.1 hd rfl (k p l e s m args below meth c X H locs cells slots ls hR hS hc hs hl)
theorem wk_lushr {x : Int64} {y : Int32} (hd : decode M.2.1 pc = .ok (.lushr, 1))  (k : wk_V w M j (pc + 1) lv (vL (x.toUInt64 >>> (y.toInt64.toUInt64 &&& Int64.toUInt64 63)).toInt64 :: st) G r) : wk_V w M j pc lv (vI y :: vL x :: st) G r :=
  fun p l e s m args below meth c X H locs cells slots ls hR hS hc hs hl => lv_lushr X.1 X.2.1 hd rfl (k p l e s m args below meth c X H locs cells slots ls hR hS hc hs hl)
theorem wk_lcmp {x y : Int64} (hd : decode M.2.1 pc = .ok (.lcmp, 1)) (k : wk_V w M j (pc + 1) lv (vI (lg_cmp x y) :: st) G r) : wk_V w M j pc lv (vL y :: vL x :: st) G r :=
  fun p l e s m args below meth c X H locs cells slots ls hR hS hc hs hl => W.lcmp X.1 X.2.1 hd (k p l e s m args below meth c X H locs cells slots ls hR hS hc hs hl)
theorem wk_c1 {v : WV} (h : wk_c2 v = false) : (wk_v v).category = 1 := by rw [wk_cat, h]; rfl
theorem wk_dup {a : WV} (hd : decode M.2.1 pc = .ok (.dup, 1)) (h1 : wk_c2 a = false) (k : wk_V w M j (pc + 1) lv (a :: a :: st) G r) : wk_V w M j pc lv (a :: st) G r :=
  fun p l e s m args below meth c X H locs cells slots ls hR hS hc hs hl => lv_dup X.1 X.2.1 hd (wk_c1 h1) (k p l e s m args below meth c X H locs cells slots ls hR hS hc hs hl)
theorem wk_pop {a : WV} (hd : decode M.2.1 pc = .ok (.pop, 1)) (h1 : wk_c2 a = false) (k : wk_V w M j (pc + 1) lv (st) G r) : wk_V w M j pc lv (a :: st) G r :=
  fun p l e s m args below meth c X H locs cells slots ls hR hS hc hs hl => lv_pop X.1 X.2.1 hd (wk_c1 h1) (k p l e s m args below meth c X H locs cells slots ls hR hS hc hs hl)
theorem wk_dup_x1 {a b : WV} (hd : decode M.2.1 pc = .ok (.dup_x1, 1)) (h1 : wk_c2 a = false) (h2 : wk_c2 b = false) (k : wk_V w M j (pc + 1) lv (a :: b :: a :: st) G r) : wk_V w M j pc lv (a :: b :: st) G r :=
  fun p l e s m args below meth c X H locs cells slots ls hR hS hc hs hl => lv_dup_x1 X.1 X.2.1 hd (wk_c1 h1) (wk_c1 h2) (k p l e s m args below meth c X H locs cells slots ls hR hS hc hs hl)
theorem wk_dup_x2 {a b d : WV} (hd : decode M.2.1 pc = .ok (.dup_x2, 1)) (h1 : wk_c2 a = false) (h2 : wk_c2 b = false) (h3 : wk_c2 d = false) (k : wk_V w M j (pc + 1) lv (a :: b :: d :: a :: st) G r) : wk_V w M j pc lv (a :: b :: d :: st) G r :=
  fun p l e s m args below meth c X H locs cells slots ls hR hS hc hs hl => lv_dup_x2 X.1 X.2.1 hd (wk_c1 h1) (wk_c1 h2) (wk_c1 h3) (k p l e s m args below meth c X H locs cells slots ls hR hS hc hs hl)
theorem wk_dup2 {a b : WV} (hd : decode M.2.1 pc = .ok (.dup2, 1)) (h1 : wk_c2 a = false) (h2 : wk_c2 b = false) (k : wk_V w M j (pc + 1) lv (a :: b :: a :: b :: st) G r) : wk_V w M j pc lv (a :: b :: st) G r :=
  fun p l e s m args below meth c X H locs cells slots ls hR hS hc hs hl => lv_dup2_11 X.1 X.2.1 hd (wk_c1 h1) (wk_c1 h2) (k p l e s m args below meth c X H locs cells slots ls hR hS hc hs hl)
theorem wk_iload_n (i : Nat) {q : Fin 4} {x : Int32} (hd : decode M.2.1 pc = .ok (.iload_n q, 1)) (hi : (q : Nat) = i) (hg : wk_get lv i = some (vI x)) (k : wk_V w M j (pc + 1) lv (vI x :: st) G r) : wk_V w M j pc lv st G r :=
  fun p l e s m args below meth c X H locs cells slots ls hR hS hc hs hl => lv_iload_n X.1 X.2.1 hd hi (wk_has_get hl hg) (k p l e s m args below meth c X H locs cells slots ls hR hS hc hs hl)
theorem wk_iload {i : Nat} {x : Int32} (hd : decode M.2.1 pc = .ok (.iload i, 2)) (hg : wk_get lv i = some (vI x)) (k : wk_V w M j (pc + 2) lv (vI x :: st) G r) : wk_V w M j pc lv st G r :=
  fun p l e s m args below meth c X H locs cells slots ls hR hS hc hs hl => lv_iload X.1 X.2.1 hd (wk_has_get hl hg) (k p l e s m args below meth c X H locs cells slots ls hR hS hc hs hl)
theorem wk_lload_n (i : Nat) {q : Fin 4} {x : Int64} (hd : decode M.2.1 pc = .ok (.lload_n q, 1)) (hi : (q : Nat) = i) (hg : wk_get lv i = some (vL x)) (k : wk_V w M j (pc + 1) lv (vL x :: st) G r) : wk_V w M j pc lv st G r :=
  fun p l e s m args below meth c X H locs cells slots ls hR hS hc hs hl => lv_lload_n X.1 X.2.1 hd hi (wk_has_get hl hg) (k p l e s m args below meth c X H locs cells slots ls hR hS hc hs hl)
theorem wk_lload {i : Nat} {x : Int64} (hd : decode M.2.1 pc = .ok (.lload i, 2)) (hg : wk_get lv i = some (vL x)) (k : wk_V w M j (pc + 2) lv (vL x :: st) G r) : wk_V w M j pc lv st G r :=
  fun p l e s m args below meth c X H locs cells slots ls hR hS hc hs hl => lv_lload X.1 X.2.1 hd (wk_has_get hl hg) (k p l e s m args below meth c X H locs cells slots ls hR hS hc hs hl)
theorem wk_aload_n (i : Nat) {q : Fin 4} {x : Option Nat} (hd : decode M.2.1 pc = .ok (.aload_n q, 1)) (hi : (q : Nat) = i) (hg : wk_get lv i = some (vR x)) (k : wk_V w M j (pc + 1) lv (vR x :: st) G r) : wk_V w M j pc lv st G r := by
  cases x with
  | none => exact fun p l e s m args below meth c X H locs cells slots ls hR hS hc hs hl => lv_aload_nN X.1 X.2.1 hd hi (wk_has_get hl hg) (k p l e s m args below meth c X H locs cells slots ls hR hS hc hs hl)
  | some a => exact fun p l e s m args below meth c X H locs cells slots ls hR hS hc hs hl => lv_aload_n X.1 X.2.1 hd hi (wk_has_get hl hg) (k p l e s m args below meth c X H locs cells slots ls hR hS hc hs hl)
theorem wk_aload {i : Nat} {x : Option Nat} (hd : decode M.2.1 pc = .ok (.aload i, 2)) (hg : wk_get lv i = some (vR x)) (k : wk_V w M j (pc + 2) lv (vR x :: st) G r) : wk_V w M j pc lv st G r := by
  cases x with
  | none => exact fun p l e s m args below meth c X H locs cells slots ls hR hS hc hs hl => lv_aloadN X.1 X.2.1 hd (wk_has_get hl hg) (k p l e s m args below meth c X H locs cells slots ls hR hS hc hs hl)
  | some a => exact fun p l e s m args below meth c X H locs cells slots ls hR hS hc hs hl => lv_aload X.1 X.2.1 hd (wk_has_get hl hg) (k p l e s m args below meth c X H locs cells slots ls hR hS hc hs hl)
theorem wk_istore_n (i : Nat) {q : Fin 4} {x : Int32} (hd : decode M.2.1 pc = .ok (.istore_n q, 1)) (hi : (q : Nat) = i) (hn : i < M.2.2.1) (k : wk_V w M j (pc + 1) (wk_set lv i (vI x)) st G r) : wk_V w M j pc lv (vI x :: st) G r :=
  fun p l e s m args below meth c X H locs cells slots ls hR hS hc hs hl => lv_istore_n X.1 X.2.1 hd hi hl hn rfl (fun ls9 h9 => k p l e s m args below meth c X H locs cells slots ls9 hR hS hc hs (wk_has_set h9))
theorem wk_istore {i : Nat} {x : Int32} (hd : decode M.2.1 pc = .ok (.istore i, 2)) (hn : i < M.2.2.1) (k : wk_V w M j (pc + 2) (wk_set lv i (vI x)) st G r) : wk_V w M j pc lv (vI x :: st) G r :=
  fun p l e s m args below meth c X H locs cells slots ls hR hS hc hs hl => lv_istore X.1 X.2.1 hd hl hn rfl (fun ls9 h9 => k p l e s m args below meth c X H locs cells slots ls9 hR hS hc hs (wk_has_set h9))
theorem wk_lstore_n (i : Nat) {q : Fin 4} {x : Int64} (hd : decode M.2.1 pc = .ok (.lstore_n q, 1)) (hi : (q : Nat) = i) (hn : i + 1 < M.2.2.1) (k : wk_V w M j (pc + 1) (wk_set2 lv i (vL x)) st G r) : wk_V w M j pc lv (vL x :: st) G r :=
  fun p l e s m args below meth c X H locs cells slots ls hR hS hc hs hl => lv_lstore_n X.1 X.2.1 hd hi hl hn rfl (fun ls9 h9 => k p l e s m args below meth c X H locs cells slots ls9 hR hS hc hs (wk_has_set2 h9))
theorem wk_lstore {i : Nat} {x : Int64} (hd : decode M.2.1 pc = .ok (.lstore i, 2)) (hn : i + 1 < M.2.2.1) (k : wk_V w M j (pc + 2) (wk_set2 lv i (vL x)) st G r) : wk_V w M j pc lv (vL x :: st) G r :=
  fun p l e s m args below meth c X H locs cells slots ls hR hS hc hs hl => lv_lstore X.1 X.2.1 hd hl hn rfl (fun ls9 h9 => k p l e s m args below meth c X H locs cells slots ls9 hR hS hc hs (wk_has_set2 h9))
theorem wk_astore_n (i : Nat) {q : Fin 4} {x : Option Nat} (hd : decode M.2.1 pc = .ok (.astore_n q, 1)) (hi : (q : Nat) = i) (hn : i < M.2.2.1) (k : wk_V w M j (pc + 1) (wk_set lv i (vR x)) st G r) : wk_V w M j pc lv (vR x :: st) G r := by
  cases x with
  | none => exact fun p l e s m args below meth c X H locs cells slots ls hR hS hc hs hl => lv_astore_nN X.1 X.2.1 hd hi hl hn rfl (fun ls9 h9 => k p l e s m args below meth c X H locs cells slots ls9 hR hS hc hs (wk_has_set h9))
  | some a => exact fun p l e s m args below meth c X H locs cells slots ls hR hS hc hs hl => lv_astore_n X.1 X.2.1 hd hi hl hn rfl (fun ls9 h9 => k p l e s m args below meth c X H locs cells slots ls9 hR hS hc hs (wk_has_set h9))
theorem wk_astore {i : Nat} {x : Option Nat} (hd : decode M.2.1 pc = .ok (.astore i, 2)) (hn : i < M.2.2.1) (k : wk_V w M j (pc + 2) (wk_set lv i (vR x)) st G r) : wk_V w M j pc lv (vR x :: st) G r := by
  cases x with
  | none => exact fun p l e s m args below meth c X H locs cells slots ls hR hS hc hs hl => lv_astoreN X.1 X.2.1 hd hl hn rfl (fun ls9 h9 => k p l e s m args below meth c X H locs cells slots ls9 hR hS hc hs (wk_has_set h9))
  | some a => exact fun p l e s m args below meth c X H locs cells slots ls hR hS hc hs hl => lv_astore X.1 X.2.1 hd hl hn rfl (fun ls9 h9 => k p l e s m args below meth c X H locs cells slots ls9 hR hS hc hs (wk_has_set h9))
theorem wk_iinc_at : ∀ (lv : List (Nat × WV)) (i : Nat) (v : WV), wk_get lv i = some v → ∃ q : Nat, (wk_lv lv)[q]? = some (i, wk_v v) := fun lv i v h => by
  obtain ⟨q, hq⟩ := List.getElem?_of_mem (wk_get_mem lv i v h)
  exact ⟨q, by rw [wk_lv, List.getElem?_map, hq]; rfl⟩
theorem wk_iinc {i : Nat} {n : Int} {x : Int32} (v : Int32) (hd : decode M.2.1 pc = .ok (.iinc i n, 3)) (hg : wk_get lv i = some (vI x)) (hv : x + Int32.ofInt n = v) (hn : i < M.2.2.1) (k : wk_V w M j (pc + 3) (wk_set lv i (vI v)) st G r) : wk_V w M j pc lv st G r := by
  obtain ⟨q, hq⟩ := wk_iinc_at lv i _ hg
  exact fun p l e s m args below meth c X H locs cells slots ls hR hS hc hs hl => lv_iinc X.1 X.2.1 hd hl hq hv hn rfl (fun ls9 h9 => k p l e s m args below meth c X H locs cells slots ls9 hR hS hc hs (wk_has_set h9))
theorem wk_if_eq (tgt : Nat) {x : Int32} {off : Int} (hd : decode M.2.1 pc = .ok (.ifCond .eq off, 3)) (ht : (pc : Int) + off = (tgt : Int)) (kt : x = 0 → wk_V w M j tgt lv st G r) (kf : ¬ (x = 0) → wk_V w M j (pc + 3) lv st G r) : wk_V w M j pc lv (vI x :: st) G r :=
  fun p l e s m args below meth c X H locs cells slots ls hR hS hc hs hl => lv_if_eq X.1 X.2.1 hd ht (fun h9 => kt h9 p l e s m args below meth c X H locs cells slots ls hR hS hc hs hl) (fun h9 => kf h9 p l e s m args below meth c X H locs cells slots ls hR hS hc hs hl)
theorem wk_if_ne (tgt : Nat) {x : Int32} {off : Int} (hd : decode M.2.1 pc = .ok (.ifCond .ne off, 3)) (ht : (pc : Int) + off = (tgt : Int)) (kt : ¬ x = 0 → wk_V w M j tgt lv st G r) (kf : x = 0 → wk_V w M j (pc + 3) lv st G r) : wk_V w M j pc lv (vI x :: st) G r :=
  fun p l e s m args below meth c X H locs cells slots ls hR hS hc hs hl => lv_if_ne X.1 X.2.1 hd ht (fun h9 => kt h9 p l e s m args below meth c X H locs cells slots ls hR hS hc hs hl) (fun h9 => kf h9 p l e s m args below meth c X H locs cells slots ls hR hS hc hs hl)
theorem wk_if_lt (tgt : Nat) {x : Int32} {off : Int} (hd : decode M.2.1 pc = .ok (.ifCond .lt off, 3)) (ht : (pc : Int) + off = (tgt : Int)) (kt : x < 0 → wk_V w M j tgt lv st G r) (kf : ¬ (x < 0) → wk_V w M j (pc + 3) lv st G r) : wk_V w M j pc lv (vI x :: st) G r :=
  fun p l e s m args below meth c X H locs cells slots ls hR hS hc hs hl => lv_if_lt X.1 X.2.1 hd ht (fun h9 => kt h9 p l e s m args below meth c X H locs cells slots ls hR hS hc hs hl) (fun h9 => kf h9 p l e s m args below meth c X H locs cells slots ls hR hS hc hs hl)
theorem wk_if_ge (tgt : Nat) {x : Int32} {off : Int} (hd : decode M.2.1 pc = .ok (.ifCond .ge off, 3)) (ht : (pc : Int) + off = (tgt : Int)) (kt : 0 ≤ x → wk_V w M j tgt lv st G r) (kf : ¬ (0 ≤ x) → wk_V w M j (pc + 3) lv st G r) : wk_V w M j pc lv (vI x :: st) G r :=
  fun p l e s m args below meth c X H locs cells slots ls hR hS hc hs hl => lv_if_ge X.1 X.2.1 hd ht (fun h9 => kt h9 p l e s m args below meth c X H locs cells slots ls hR hS hc hs hl) (fun h9 => kf h9 p l e s m args below meth c X H locs cells slots ls hR hS hc hs hl)
theorem wk_if_gt (tgt : Nat) {x : Int32} {off : Int} (hd : decode M.2.1 pc = .ok (.ifCond .gt off, 3)) (ht : (pc : Int) + off = (tgt : Int)) (kt : 0 < x → wk_V w M j tgt lv st G r) (kf : ¬ (0 < x) → wk_V w M j (pc + 3) lv st G r) : wk_V w M j pc lv (vI x :: st) G r :=
  fun p l e s m args below meth c X H locs cells slots ls hR hS hc hs hl => lv_if_gt X.1 X.2.1 hd ht (fun h9 => kt h9 p l e s m args below meth c X H locs cells slots ls hR hS hc hs hl) (fun h9 => kf h9 p l e s m args below meth c X H locs cells slots ls hR hS hc hs hl)
theorem wk_if_le (tgt : Nat) {x : Int32} {off : Int} (hd : decode M.2.1 pc = .ok (.ifCond .le off, 3)) (ht : (pc : Int) + off = (tgt : Int)) (kt : x ≤ 0 → wk_V w M j tgt lv st G r) (kf : ¬ (x ≤ 0) → wk_V w M j (pc + 3) lv st G r) : wk_V w M j pc lv (vI x :: st) G r :=
  fun p l e s m args below meth c X H locs cells slots ls hR hS hc hs hl => lv_if_le X.1 X.2.1 hd ht (fun h9 => kt h9 p l e s m args below meth c X H locs cells slots ls hR hS hc hs hl) (fun h9 => kf h9 p l e s m args below meth c X H locs cells slots ls hR hS hc hs hl)
theorem wk_icmp_eq (tgt : Nat) {x y : Int32} {off : Int} (hd : decode M.2.1 pc = .ok (.if_icmp .eq off, 3)) (ht : (pc : Int) + off = (tgt : Int)) (kt : x = y → wk_V w M j tgt lv st G r) (kf : ¬ (x = y) → wk_V w M j (pc + 3) lv st G r) : wk_V w M j pc lv (vI y :: vI x :: st) G r :=
  fun p l e s m args below meth c X H locs cells slots ls hR hS hc hs hl => lv_icmp_eq X.1 X.2.1 hd ht (fun h9 => kt h9 p l e s m args below meth c X H locs cells slots ls hR hS hc hs hl) (fun h9 => kf h9 p l e s m args below meth c X H locs cells slots ls hR hS hc hs hl)
theorem wk_icmp_ne (tgt : Nat) {x y : Int32} {off : Int} (hd : decode M.2.1 pc = .ok (.if_icmp .ne off, 3)) (ht : (pc : Int) + off = (tgt : Int)) (kt : ¬ x = y → wk_V w M j tgt lv st G r) (kf : x = y → wk_V w M j (pc + 3) lv st G r) : wk_V w M j pc lv (vI y :: vI x :: st) G r :=
  fun p l e s m args below meth c X H locs cells slots ls hR hS hc hs hl => lv_icmp_ne X.1 X.2.1 hd ht (fun h9 => kt h9 p l e s m args below meth c X H locs cells slots ls hR hS hc hs hl) (fun h9 => kf h9 p l e s m args below meth c X H locs cells slots ls hR hS hc hs hl)
theorem wk_icmp_lt (tgt : Nat) {x y : Int32} {off : Int} (hd : decode M.2.1 pc = .ok (.if_icmp .lt off, 3)) (ht : (pc : Int) + off = (tgt : Int)) (kt : x < y → wk_V w M j tgt lv st G r) (kf : ¬ (x < y) → wk_V w M j (pc + 3) lv st G r) : wk_V w M j pc lv (vI y :: vI x :: st) G r :=
  fun p l e s m args below meth c X H locs cells slots ls hR hS hc hs hl => lv_icmp_lt X.1 X.2.1 hd ht (fun h9 => kt h9 p l e s m args below meth c X H locs cells slots ls hR hS hc hs hl) (fun h9 => kf h9 p l e s m args below meth c X H locs cells slots ls hR hS hc hs hl)
theorem wk_icmp_ge (tgt : Nat) {x y : Int32} {off : Int} (hd : decode M.2.1 pc = .ok (.if_icmp .ge off, 3)) (ht : (pc : Int) + off = (tgt : Int)) (kt : y ≤ x → wk_V w M j tgt lv st G r) (kf : ¬ (y ≤ x) → wk_V w M j (pc + 3) lv st G r) : wk_V w M j pc lv (vI y :: vI x :: st) G r :=
  fun p l e s m args below meth c X H locs cells slots ls hR hS hc hs hl => lv_icmp_ge X.1 X.2.1 hd ht (fun h9 => kt h9 p l e s m args below meth c X H locs cells slots ls hR hS hc hs hl) (fun h9 => kf h9 p l e s m args below meth c X H locs cells slots ls hR hS hc hs hl)
theorem wk_icmp_gt (tgt : Nat) {x y : Int32} {off : Int} (hd : decode M.2.1 pc = .ok (.if_icmp .gt off, 3)) (ht : (pc : Int) + off = (tgt : Int)) (kt : y < x → wk_V w M j tgt lv st G r) (kf : ¬ (y < x) → wk_V w M j (pc + 3) lv st G r) : wk_V w M j pc lv (vI y :: vI x :: st) G r :=
  fun p l e s m args below meth c X H locs cells slots ls hR hS hc hs hl => lv_icmp_gt X.1 X.2.1 hd ht (fun h9 => kt h9 p l e s m args below meth c X H locs cells slots ls hR hS hc hs hl) (fun h9 => kf h9 p l e s m args below meth c X H locs cells slots ls hR hS hc hs hl)
theorem wk_icmp_le (tgt : Nat) {x y : Int32} {off : Int} (hd : decode M.2.1 pc = .ok (.if_icmp .le off, 3)) (ht : (pc : Int) + off = (tgt : Int)) (kt : x ≤ y → wk_V w M j tgt lv st G r) (kf : ¬ (x ≤ y) → wk_V w M j (pc + 3) lv st G r) : wk_V w M j pc lv (vI y :: vI x :: st) G r :=
  fun p l e s m args below meth c X H locs cells slots ls hR hS hc hs hl => lv_icmp_le X.1 X.2.1 hd ht (fun h9 => kt h9 p l e s m args below meth c X H locs cells slots ls hR hS hc hs hl) (fun h9 => kf h9 p l e s m args below meth c X H locs cells slots ls hR hS hc hs hl)
theorem wk_acmp_eq (tgt : Nat) {x y : Option Nat} {off : Int} (hd : decode M.2.1 pc = .ok (.if_acmp .eq off, 3)) (ht : (pc : Int) + off = (tgt : Int)) (kt : x = y → wk_V w M j tgt lv st G r) (kf : ¬ (x = y) → wk_V w M j (pc + 3) lv st G r) : wk_V w M j pc lv (vR y :: vR x :: st) G r :=
  fun p l e s m args below meth c X H locs cells slots ls hR hS hc hs hl => lv_acmp_eq X.1 X.2.1 hd ht (fun h9 => kt h9 p l e s m args below meth c X H locs cells slots ls hR hS hc hs hl) (fun h9 => kf h9 p l e s m args below meth c X H locs cells slots ls hR hS hc hs hl)
theorem wk_acmp_ne (tgt : Nat) {x y : Option Nat} {off : Int} (hd : decode M.2.1 pc = .ok (.if_acmp .ne off, 3)) (ht : (pc : Int) + off = (tgt : Int)) (kt : ¬ x = y → wk_V w M j tgt lv st G r) (kf : x = y → wk_V w M j (pc + 3) lv st G r) : wk_V w M j pc lv (vR y :: vR x :: st) G r :=
  fun p l e s m args below meth c X H locs cells slots ls hR hS hc hs hl => lv_acmp_ne X.1 X.2.1 hd ht (fun h9 => kt h9 p l e s m args below meth c X H locs cells slots ls hR hS hc hs hl) (fun h9 => kf h9 p l e s m args below meth c X H locs cells slots ls hR hS hc hs hl)
theorem wk_ifnull (tgt : Nat) {x : Option Nat} {off : Int} (hd : decode M.2.1 pc = .ok (.ifnull off, 3)) (ht : (pc : Int) + off = (tgt : Int)) (kt : x = none → wk_V w M j tgt lv st G r) (kf : ∀ a, x = some a → wk_V w M j (pc + 3) lv st G r) : wk_V w M j pc lv (vR x :: st) G r := by
  cases x with
  | none => exact fun p l e s m args below meth c X H locs cells slots ls hR hS hc hs hl => lv_ifnullN X.1 X.2.1 hd ht (kt rfl p l e s m args below meth c X H locs cells slots ls hR hS hc hs hl)
  | some a => exact fun p l e s m args below meth c X H locs cells slots ls hR hS hc hs hl => lv_ifnull X.1 X.2.1 hd (kf a rfl p l e s m args below meth c X H locs cells slots ls hR hS hc hs hl)
theorem wk_ifnonnull (tgt : Nat) {x : Option Nat} {off : Int} (hd : decode M.2.1 pc = .ok (.ifnonnull off, 3)) (ht : (pc : Int) + off = (tgt : Int)) (kt : ∀ a, x = some a → wk_V w M j tgt lv st G r) (kf : x = none → wk_V w M j (pc + 3) lv st G r) : wk_V w M j pc lv (vR x :: st) G r := by
  cases x with
  | none => exact fun p l e s m args below meth c X H locs cells slots ls hR hS hc hs hl => lv_ifnonnullN X.1 X.2.1 hd (kf rfl p l e s m args below meth c X H locs cells slots ls hR hS hc hs hl)
  | some a => exact fun p l e s m args below meth c X H locs cells slots ls hR hS hc hs hl => lv_ifnonnull X.1 X.2.1 hd ht (kt a rfl p l e s m args below meth c X H locs cells slots ls hR hS hc hs hl)
theorem wk_goto (tgt : Nat) {off : Int} (hd : decode M.2.1 pc = .ok (.goto off, 3)) (ht : (pc : Int) + off = (tgt : Int)) (k : wk_V w M j tgt lv st G r) : wk_V w M j pc lv st G r :=
  fun p l e s m args below meth c X H locs cells slots ls hR hS hc hs hl => lv_goto X.1 X.2.1 hd ht (k p l e s m args below meth c X H locs cells slots ls hR hS hc hs hl)
theorem wk_null (hd : decode M.2.1 pc = .ok (.aconst_null, 1)) (k : wk_V w M j (pc + 1) lv (vR none :: st) G r) : wk_V w M j pc lv st G r :=
  fun p l e s m args below meth c X H locs cells slots ls hR hS hc hs hl => lv_null X.1 X.2.1 hd (k p l e s m args below meth c X H locs cells slots ls hR hS hc hs hl)
theorem wk_ldc {idx : Nat} (v : Int32) (hw : Cond.constant M.1.cls idx v ∈ lw_all) (hd : decode M.2.1 pc = .ok (.ldc idx, 2)) (k : wk_V w M j (pc + 2) lv (vI v :: st) G r) : wk_V w M j pc lv st G r :=
  fun p l e s m args below meth c X H locs cells slots ls hR hS hc hs hl => lv_ldc X.1 X.2.1 X.2.2.2.2.2.1 (X.2.2.2.2.2.2.1 _ hw) hd (k p l e s m args below meth c X H locs cells slots ls hR hS hc hs hl)
theorem wk_ldcw {idx : Nat} (v : Int32) (hw : Cond.constant M.1.cls idx v ∈ lw_all) (hd : decode M.2.1 pc = .ok (.ldc_w idx, 3)) (k : wk_V w M j (pc + 3) lv (vI v :: st) G r) : wk_V w M j pc lv st G r :=
  fun p l e s m args below meth c X H locs cells slots ls hR hS hc hs hl => lv_ldcw X.1 X.2.1 X.2.2.2.2.2.1 (X.2.2.2.2.2.2.1 _ hw) hd (k p l e s m args below meth c X H locs cells slots ls hR hS hc hs hl)
theorem wk_ldc2 {idx : Nat} (v : Int64) (hw : Cond.constantLong M.1.cls idx v ∈ lw_all) (hd : decode M.2.1 pc = .ok (.ldc2_w idx, 3)) (k : wk_V w M j (pc + 3) lv (vL v :: st) G r) : wk_V w M j pc lv st G r :=
  fun p l e s m args below meth c X H locs cells slots ls hR hS hc hs hl => lv_ldc2 X.1 X.2.1 X.2.2.2.2.2.1 (X.2.2.2.2.2.2.1 _ hw) hd (k p l e s m args below meth c X H locs cells slots ls hR hS hc hs hl)
theorem wk_tableOut (tgt : Nat) {dflt lo hi : Int} {offs : Array Int} {len : Nat} {x : Int32} (hd : decode M.2.1 pc = .ok (.tableswitch dflt lo hi offs, len)) (h : x.toInt < lo ∨ hi < x.toInt) (ht : (pc : Int) + dflt = (tgt : Int)) (k : wk_V w M j tgt lv st G r) : wk_V w M j pc lv (vI x :: st) G r :=
  fun p l e s m args below meth c X H locs cells slots ls hR hS hc hs hl => lv_tableOut X.1 X.2.1 hd h ht (k p l e s m args below meth c X H locs cells slots ls hR hS hc hs hl)
theorem wk_tableIn (tgt : Nat) {dflt lo hi off : Int} {offs : Array Int} {len : Nat} {x : Int32} (hd : decode M.2.1 pc = .ok (.tableswitch dflt lo hi offs, len)) (h1 : ¬ x.toInt < lo) (h2 : ¬ hi < x.toInt) (ho : offs[(x.toInt - lo).toNat]? = some off) (ht : (pc : Int) + off = (tgt : Int)) (k : wk_V w M j tgt lv st G r) : wk_V w M j pc lv (vI x :: st) G r :=
  fun p l e s m args below meth c X H locs cells slots ls hR hS hc hs hl => lv_tableIn X.1 X.2.1 hd h1 h2 ho ht (k p l e s m args below meth c X H locs cells slots ls hR hS hc hs hl)
theorem wk_lookup (tgt : Nat) {dflt off : Int} {ps : Array (Int × Int)} {len : Nat} {x : Int32} (hd : decode M.2.1 pc = .ok (.lookupswitch dflt ps, len)) (hp : (ps.toList.zip (ps.toList.drop 1)).all (fun (a, next) => a.1 < next.1) = true) (ho : Op.lookupswitch.offset ps.toList dflt x.toInt = off) (ht : (pc : Int) + off = (tgt : Int)) (k : wk_V w M j tgt lv st G r) : wk_V w M j pc lv (vI x :: st) G r :=
  fun p l e s m args below meth c X H locs cells slots ls hR hS hc hs hl => lv_lookup X.1 X.2.1 hd hp ho ht (k p l e s m args below meth c X H locs cells slots ls hR hS hc hs hl)
end
