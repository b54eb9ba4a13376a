/-! OWN LAYER, 1: the ghost heap and what it says of the machine's heap -/
set_option maxRecDepth 100000
/-- a ghost heap: kind of a cell (0: nothing known), length, ints, references, longs; how many cells and slots the heap has -/
abbrev GH : Type := (Nat → Nat) × (Nat → Nat) × (Nat → Nat → Int32) × (Nat → Nat → Option Nat) × (Nat → Nat → Int64) × (Nat × Nat)
def hp_kd (G : GH) (a : Nat) : Nat := G.1 a
def hp_ln (G : GH) (a : Nat) : Nat := G.2.1 a
def hp_i (G : GH) (a k : Nat) : Int32 := G.2.2.1 a k
def hp_r (G : GH) (a k : Nat) : Option Nat := G.2.2.2.1 a k
def hp_l (G : GH) (a k : Nat) : Int64 := G.2.2.2.2.1 a k
def hp_cs (G : GH) : Nat := G.2.2.2.2.2.1
def hp_ss (G : GH) : Nat := G.2.2.2.2.2.2
def hp_up {α : Type} (f : Nat → Nat → α) (a k : Nat) (v : α) : Nat → Nat → α := fun x j => if x = a then (if j = k then v else f x j) else f x j
def hp_u1 {α : Type} (f : Nat → α) (a : Nat) (v : α) : Nat → α := fun x => if x = a then v else f x
def hp_sI (G : GH) (a k : Nat) (v : Int32) : GH := (G.1, G.2.1, hp_up G.2.2.1 a k v, G.2.2.2)
def hp_sR (G : GH) (a k : Nat) (v : Option Nat) : GH := (G.1, G.2.1, G.2.2.1, hp_up G.2.2.2.1 a k v, G.2.2.2.2)
def hp_sL (G : GH) (a k : Nat) (v : Int64) : GH := (G.1, G.2.1, G.2.2.1, G.2.2.2.1, hp_up G.2.2.2.2.1 a k v, G.2.2.2.2.2)
/-- the slots of an object of the kind c -/
def hp_sz : Nat → Nat := fun c => match c with
  | 3 => 8
  | 4 => 8
  | 5 => 3
  | 6 => 6
  | 7 => 3
  | 8 => 12
  | 9 => 3
  | 10 => 7
  | 11 => 8
  | 12 => 11
  | 13 => 5
  | 14 => 4
  | 15 => 6
  | 16 => 5
  | 17 => 7
  | 18 => 6
  | 19 => 7
  | 20 => 6
  | 21 => 9
  | 22 => 3
  | 23 => 8
  | 24 => 4
  | 25 => 11
  | 26 => 4
  | 27 => 4
  | _ => 0
/-- a new cell, all zero -/
def hp_nw (G : GH) (a c n : Nat) : GH := (hp_u1 G.1 a c, hp_u1 G.2.1 a n, hp_u1 G.2.2.1 a (fun _ => 0), hp_u1 G.2.2.2.1 a (fun _ => none), hp_u1 G.2.2.2.2.1 a (fun _ => 0), (G.2.2.2.2.2.1 + 1, G.2.2.2.2.2.2 + (if c < 28 then hp_sz c else n)))
/-- other counts -/
def hp_cn (G : GH) (x y : Nat) : GH := (G.1, G.2.1, G.2.2.1, G.2.2.2.1, G.2.2.2.2.1, (x, y))
theorem hp_kd_sI {G : GH} {a k : Nat} {v : Int32} {b : Nat} : hp_kd (hp_sI G a k v) b = hp_kd G b := rfl
theorem hp_kd_sR {G : GH} {a k : Nat} {v : Option Nat} {b : Nat} : hp_kd (hp_sR G a k v) b = hp_kd G b := rfl
theorem hp_kd_sL {G : GH} {a k : Nat} {v : Int64} {b : Nat} : hp_kd (hp_sL G a k v) b = hp_kd G b := rfl
theorem hp_ln_sI {G : GH} {a k : Nat} {v : Int32} {b : Nat} : hp_ln (hp_sI G a k v) b = hp_ln G b := rfl
theorem hp_ln_sR {G : GH} {a k : Nat} {v : Option Nat} {b : Nat} : hp_ln (hp_sR G a k v) b = hp_ln G b := rfl
theorem hp_ln_sL {G : GH} {a k : Nat} {v : Int64} {b : Nat} : hp_ln (hp_sL G a k v) b = hp_ln G b := rfl
theorem hp_i_sR {G : GH} {a k : Nat} {v : Option Nat} {b j : Nat} : hp_i (hp_sR G a k v) b j = hp_i G b j := rfl
theorem hp_i_sL {G : GH} {a k : Nat} {v : Int64} {b j : Nat} : hp_i (hp_sL G a k v) b j = hp_i G b j := rfl
theorem hp_r_sI {G : GH} {a k : Nat} {v : Int32} {b j : Nat} : hp_r (hp_sI G a k v) b j = hp_r G b j := rfl
theorem hp_r_sL {G : GH} {a k : Nat} {v : Int64} {b j : Nat} : hp_r (hp_sL G a k v) b j = hp_r G b j := rfl
theorem hp_l_sI {G : GH} {a k : Nat} {v : Int32} {b j : Nat} : hp_l (hp_sI G a k v) b j = hp_l G b j := rfl
theorem hp_l_sR {G : GH} {a k : Nat} {v : Option Nat} {b j : Nat} : hp_l (hp_sR G a k v) b j = hp_l G b j := rfl
theorem hp_i_sI {G : GH} {a k : Nat} {v : Int32} {b j : Nat} : hp_i (hp_sI G a k v) b j = if b = a then (if j = k then v else hp_i G b j) else hp_i G b j := rfl
theorem hp_r_sR {G : GH} {a k : Nat} {v : Option Nat} {b j : Nat} : hp_r (hp_sR G a k v) b j = if b = a then (if j = k then v else hp_r G b j) else hp_r G b j := rfl
theorem hp_l_sL {G : GH} {a k : Nat} {v : Int64} {b j : Nat} : hp_l (hp_sL G a k v) b j = if b = a then (if j = k then v else hp_l G b j) else hp_l G b j := rfl
theorem hp_kd_nw {G : GH} {a c n b : Nat} : hp_kd (hp_nw G a c n) b = if b = a then c else hp_kd G b := rfl
theorem hp_ln_nw {G : GH} {a c n b : Nat} : hp_ln (hp_nw G a c n) b = if b = a then n else hp_ln G b := rfl
theorem hp_i_nw {G : GH} {a c n b j : Nat} : hp_i (hp_nw G a c n) b j = if b = a then 0 else hp_i G b j := by
  show (if b = a then (fun _ => (0 : Int32)) else G.2.2.1 b) j = _
  split <;> rfl
theorem hp_r_nw {G : GH} {a c n b j : Nat} : hp_r (hp_nw G a c n) b j = if b = a then none else hp_r G b j := by
  show (if b = a then (fun _ => (none : Option Nat)) else G.2.2.2.1 b) j = _
  split <;> rfl
theorem hp_l_nw {G : GH} {a c n b j : Nat} : hp_l (hp_nw G a c n) b j = if b = a then 0 else hp_l G b j := by
  show (if b = a then (fun _ => (0 : Int64)) else G.2.2.2.2.1 b) j = _
  split <;> rfl
theorem hp_cs_sI {G : GH} {a k : Nat} {v : Int32} : hp_cs (hp_sI G a k v) = hp_cs G := rfl
theorem hp_cs_sR {G : GH} {a k : Nat} {v : Option Nat} : hp_cs (hp_sR G a k v) = hp_cs G := rfl
theorem hp_cs_sL {G : GH} {a k : Nat} {v : Int64} : hp_cs (hp_sL G a k v) = hp_cs G := rfl
theorem hp_ss_sI {G : GH} {a k : Nat} {v : Int32} : hp_ss (hp_sI G a k v) = hp_ss G := rfl
theorem hp_ss_sR {G : GH} {a k : Nat} {v : Option Nat} : hp_ss (hp_sR G a k v) = hp_ss G := rfl
theorem hp_ss_sL {G : GH} {a k : Nat} {v : Int64} : hp_ss (hp_sL G a k v) = hp_ss G := rfl
theorem hp_cs_nw {G : GH} {a c n : Nat} : hp_cs (hp_nw G a c n) = hp_cs G + 1 := rfl
theorem hp_ss_nw {G : GH} {a c n : Nat} : hp_ss (hp_nw G a c n) = hp_ss G + (if c < 28 then hp_sz c else n) := rfl
/-- the slots of a heap -/
def hp_sl (H : Heap) : Nat := (H.toList.map (fun c => c.slots.size)).sum
theorem hp_sl_eq {H H' : Heap} (h : ∀ q : Nat, (H'[q]?).map (fun c => c.slots.size) = (H[q]?).map (fun c => c.slots.size)) : hp_sl H' = hp_sl H := by
  unfold hp_sl
  congr 1
  refine List.ext_getElem? fun i => ?_
  simp only [List.getElem?_map, Array.getElem?_toList]
  exact h i
/-- one cell differs, in its contents alone -/
theorem hp_sl_set {H H' : Heap} {a : Nat} {c c' : Cell} (h1 : H[a]? = some c) (h2 : H'[a]? = some c') (hs : c'.slots.size = c.slots.size) (ho : ∀ q : Nat, q ≠ a → H'[q]? = H[q]?) : hp_sl H' = hp_sl H :=
  hp_sl_eq fun q => by
    by_cases e : q = a
    · rw [e, h1, h2, Option.map_some, Option.map_some, hs]
    · rw [ho q e]
/-- one cell more -/
theorem hp_sl_push {H H1 : Heap} {c : Cell} (z : H1.size = H.size + 1) (o : ∀ q : Nat, q < H.size → H1[q]? = H[q]?) (e : H1[H.size]? = some c) : hp_sl H1 = hp_sl H + c.slots.size := by
  have h : H1 = H.push c := by
    refine Array.ext_getElem? fun i => ?_
    rcases Nat.lt_trichotomy i H.size with h | h | h
    · rw [o i h, Array.getElem?_push, if_neg (Nat.ne_of_lt h)]
    · rw [h, e, Array.getElem?_push_size]
    · rw [Array.getElem?_eq_none (by omega), Array.getElem?_eq_none (by rw [Array.size_push]; omega)]
  rw [h]
  unfold hp_sl
  rw [Array.toList_push, List.map_append, List.sum_append]
  simp
theorem hp_sl_same {s s' : State} {locs : List Loc} {x y : Nat} (h : s.sameButNew s' locs x y) : hp_sl s'.heap = hp_sl s.heap + ((s'.heap.toList.drop s.heap.size).map (·.slots.size)).sum := by
  obtain ⟨-, h1, -, -, -, h2⟩ := h
  unfold hp_sl
  conv => lhs; rw [← List.take_append_drop s.heap.size s'.heap.toList, List.map_append, List.sum_append]
  congr 2
  refine List.ext_getElem? fun i => ?_
  simp only [List.getElem?_map, Array.getElem?_toList, List.getElem?_take]
  rcases Nat.lt_or_ge i s.heap.size with h | h
  · rw [if_pos h]
    obtain ⟨c', g1, -, g2, -⟩ := h2 i s.heap[i] (Array.getElem?_eq_getElem h)
    rw [g1, Array.getElem?_eq_getElem h, Option.map_some, Option.map_some, g2]
  · rw [if_neg (by omega), Array.getElem?_eq_none h]
/-- a value of a local, of the stack: an int, a reference or null, a long -/
abbrev WV : Type := Int32 ⊕ (Option Nat ⊕ Int64)
abbrev vI (x : Int32) : WV := .inl x
abbrev vR (r : Option Nat) : WV := .inr (.inl r)
abbrev vL (x : Int64) : WV := .inr (.inr x)
def wk_v (v : WV) : Value := match v with
  | .inl x => .int x
  | .inr (.inl r) => va_rf r
  | .inr (.inr x) => .long x
def wk_c2 (v : WV) : Bool := match v with
  | .inl _ => false
  | .inr (.inl _) => false
  | .inr (.inr _) => true
theorem wk_rf1 (r : Option Nat) : (va_rf r).category = 1 := by cases r <;> rfl
theorem wk_cat (v : WV) : (wk_v v).category = if wk_c2 v = true then 2 else 1 := by
  rcases v with x | r | x
  · rfl
  · exact wk_rf1 r
  · rfl
/-- what a cell of an object holds at its field of the type ty -/
def hp_fv (ty : FieldType) (i : Int32) (r : Option Nat) : Value := match ty with
  | .object _ => va_rf r
  | .array _ => va_rf r
  | .float => .float i.toUInt32
  | .long => .null
  | .double => .null
  | _ => .int i
/-- an array's cell -/
def hp_ac (cA : ClassId) (ty : FieldType) (n : Nat) (i : Nat → Int32) (r : Nat → Option Nat) (x : Nat → Int64) : Cell := match ty with
  | .object _ => arrV cA n (fun j => va_rf (r j))
  | .array _ => arrV cA n (fun j => va_rf (r j))
  | .long => arrV cA n (fun j => .long (x j))
  | _ => arrV cA n (fun j => .int (i j))
/-! OWN LAYER, 2: the world's constants; a ghost heap's tie to the machine's; what is known of the classes -/
/-- classes and slots, array classes, the first free address at the law's start, static references, addresses of String constants -/
abbrev WD : Type := va_G × (Nat → ClassId) × Nat × (String → String → Option Nat) × (String → Nat)
def hp_A (w : WD) : Nat → Prop := fun q => w.2.2.1 ≤ q
def hp_sv (w : WD) (C n : String) : Option Nat := w.2.2.2.1 C n
def hp_sa (w : WD) (tx : String) : Nat := w.2.2.2.2 tx
/-- private methods of an abstract class of the JDK -/
def hp_pmL : List MethodName := [⟨"java/lang/AbstractStringBuilder", "ensureCapacityInternal", "(I)V"⟩, ⟨"java/lang/AbstractStringBuilder", "newCapacity", "(I)I"⟩]
def hp_miL : List String := ["java/lang/String", "[Ljava/lang/Object;"]
/-- a class object's address -/
def hp_mi (w : WD) (C : String) : Nat := w.2.2.2.2 ("mirror of " ++ C)
def hp_ce (w : WD) (G : GH) (a : Nat) (H : Heap) : Prop :=
  (hp_kd G a < 28 → t_OB a (w.1.1 (hp_kd G a)) (hp_N (hp_kd G a)) (w.1.2 (hp_kd G a)) H (fun j => hp_fv (hp_ty (hp_kd G a) j) (hp_i G a j) (hp_r G a j))) ∧
  (28 ≤ hp_kd G a → H[a]? = some (hp_ac (w.2.1 (hp_kd G a)) (hp_at (hp_kd G a)) (hp_ln G a) (hp_i G a) (hp_r G a) (hp_l G a)))
def hp_R (w : WD) (G : GH) (H : Heap) : Prop := (∀ a, hp_kd G a ≠ 0 → hp_ce w G a H ∧ hp_kd G a < 36) ∧ w.2.2.1 ≤ H.size ∧ hp_cs G = H.size ∧ hp_ss G = hp_sl H
theorem hp_R.lt {w : WD} {G : GH} {H : Heap} (h : hp_R w G H) {a : Nat} (ha : hp_kd G a ≠ 0) : a < H.size := by
  obtain ⟨⟨h1, h2⟩, h3⟩ := h.1 a ha
  rcases Nat.lt_or_ge (hp_kd G a) 28 with q | q
  · obtain ⟨cell, e, -⟩ := h1 q
    exact (Array.getElem?_eq_some_iff.mp e).1
  · exact (Array.getElem?_eq_some_iff.mp (h2 q)).1
theorem hp_R.fresh {w : WD} {G : GH} {H : Heap} (h : hp_R w G H) {a : Nat} (ha : H.size ≤ a) : hp_kd G a = 0 :=
  Decidable.byContradiction fun q => Nat.lt_irrefl _ (Nat.lt_of_le_of_lt ha (h.lt q))
/-- what is known of the classes, of the statics that nobody writes, of String constants, of nest mates -/
def hp_K (w : WD) (U : State) : Prop :=
  (∀ c, c < 28 → u_Kn U (hp_C c) (hp_T c) (hp_N c) (w.1.1 c) (w.1.2 c)) ∧
  (∀ c, 28 ≤ c → c < 36 → ArrOfT U (w.2.1 c) (hp_at c) ∧ va_RA U (w.2.1 c) (hp_at c)) ∧
  (∀ q ∈ hp_stL, va_Z q.1 q.2.1 q.2.2 (va_rf (hp_sv w q.1 q.2.1)) (hp_A w) U U.heap) ∧
  (∀ q ∈ hp_siL, va_Z q.1 q.2.1 q.2.2.1 (.int q.2.2.2) (hp_A w) U U.heap) ∧
  (∀ q ∈ hp_ldL, vk_R q.1 q.2.1 q.2.2 (hp_sa w q.2.2) U) ∧
  (∀ q ∈ hp_caL, va_Nw (.castable q.1 q.2) U) ∧ (∀ q ∈ hp_ncL, va_Nc q.1 q.2 U) ∧
  (∀ q ∈ hp_nfL, va_Nw (.fieldLinkNest q.1 q.2.1 q.2.2.1 q.2.2.2.1 q.2.2.2.2.1 q.2.2.2.2.2) U) ∧
  (∀ q ∈ hp_nmL, va_Nw (.methodLinkNest q.1 q.2.1 q.2.2.1 q.2.2.2) U) ∧
  (∀ q ∈ hp_fwL, va_Fw q.1 q.2.1 q.2.2 U) ∧ (∀ q ∈ hp_aoL, va_AO q U) ∧ (∀ q ∈ hp_dcL, va_Nw (.declares q) U) ∧ (∀ q ∈ hp_miL, va_Mi q (hp_mi w q) U) ∧
  vx_Zq Bundle.tN "UNASSIGNED_STACK" Bundle.steD (hp_A w) U U.heap ∧ vx_Zq Bundle.tN "SUPPRESSED_SENTINEL" Bundle.listD (hp_A w) U U.heap ∧
  (∀ q ∈ hp_pmL, va_Nw (.selects "java/lang/StringBuilder" q q) U)
theorem hp_fwOk : ∀ q ∈ hp_fwL, q.2.1.cls ≠ "java/lang/invoke/MethodHandle" ∧ q.2.1.cls ≠ "java/lang/invoke/VarHandle" := by decide +kernel
/-- it holds later on: of a warmer state, whose old cells outside the own ones stand -/
theorem hp_K.moved {w : WD} {u U : State} (h : hp_K w u) (hW : u.WarmedH U.vm) (hH : ∀ q : Nat, q < u.heap.size → ¬ hp_A w q → U.heap[q]? = u.heap[q]?) : hp_K w U := by
  obtain ⟨h1, h2, h3, h4, h5, h6, h7, h8, h9, h10, h11, h12, h13, h14, h15, h16⟩ := h
  have hvm := hW.alike
  exact ⟨fun c hc => u_Kn_moved hvm (h1 c hc), fun c a b => ⟨arrOfT_moved hvm (h2 c a b).1, (h2 c a b).2.moved hvm⟩, fun q hq => ((h3 q hq).moved hvm).kept hH, fun q hq => ((h4 q hq).moved hvm).kept hH, fun q hq => (h5 q hq).warm hW,
    fun q hq => (h6 q hq).warmC hW, fun q hq => (h7 q hq).moved hvm, fun q hq => (h8 q hq).warmF hW, fun q hq => (h9 q hq).warmM hW, fun q hq => va_Fw.moved (hp_fwOk q hq) hvm (h10 q hq), fun q hq => (h11 q hq).moved hvm, fun q hq => (h12 q hq).warmD hW, fun q hq => (h13 q hq).moved hvm, (h14.moved hvm).kept hH, (h15.moved hvm).kept hH, fun q hq => word_at hW (Or.inl (by first | rfl | simp [Cond.onTables, Cond.keeps, Cond.steady])) (h16 q hq)⟩
/-- where only the frames differ -/
theorem hp_K.same {w : WD} {u U : State} (h : hp_K w u) (hvm : u.vm = U.vm) (hH : u.heap = U.heap) : hp_K w U := by
  obtain ⟨h1, h2, h3, h4, h5, h6, h7, h8, h9, h10, h11, h12, h13, h14, h15, h16⟩ := h
  have hA : u.vm.Alike U.vm := by rw [hvm]; exact Vm.Alike.refl _
  have hk : ∀ q : Nat, q < u.heap.size → ¬ hp_A w q → U.heap[q]? = u.heap[q]? := fun q _ _ => by rw [hH]
  exact ⟨fun c hc => u_Kn_moved hA (h1 c hc), fun c a b => ⟨arrOfT_moved hA (h2 c a b).1, (h2 c a b).2.moved hA⟩, fun q hq => ((h3 q hq).moved hA).kept hk, fun q hq => ((h4 q hq).moved hA).kept hk, fun q hq => (h5 q hq).same hvm.symm,
    fun q hq => va_Nw.same rfl hvm (h6 q hq), fun q hq => (h7 q hq).moved hA, fun q hq => va_Nw.same rfl hvm (h8 q hq), fun q hq => va_Nw.same rfl hvm (h9 q hq), fun q hq => va_Fw.moved (hp_fwOk q hq) hA (h10 q hq), fun q hq => (h11 q hq).moved hA, fun q hq => va_Nw.same rfl hvm (h12 q hq), fun q hq => (h13 q hq).moved hA, (h14.moved hA).kept hk, (h15.moved hA).kept hk, fun q hq => va_Nw.same rfl hvm (h16 q hq)⟩
/-- a method: name, code, locals, answer, handlers -/
abbrev MI : Type := MethodName × ByteArray × Nat × Option FieldType × List (Nat × Nat × Nat × Nat)
/-- what a walk owes: depth, budget, post, post of what it throws; the cells and slots that the heap had at its entry -/
abbrev JB : Type := Nat × Nat × (Option WV → GH → Prop) × (String → Nat → GH → Prop) × (Nat × Nat)
def wk_rm (d b : Nat) : Room := { frames := d, cells := b, slots := 12 * b, locals := 50 * d }
def wk_Q (w : WD) (P : Option WV → GH → Prop) : Array Value → State → Outcome → State → Prop := fun _ st o t => ∃ (v : Option WV) (G' : GH), o = .returned (v.map wk_v) ∧ P v G' ∧ hp_R w G' t.heap ∧ va_F (hp_A w) st t
def wk_X (w : WD) (PX : String → Nat → GH → Prop) : String → Addr → State → State → Prop := fun E q st t => ∃ G' : GH, PX E q G' ∧ hp_R w G' t.heap ∧ va_F (hp_A w) st t
def wk_P (w : WD) (As : List WV) (G : GH) : Array Value → State → Prop := fun a U => a = (As.map wk_v).toArray ∧ hp_R w G U.heap ∧ hp_K w U
def wk_hd (M : MI) : Cond := match M.2.2.2.2 with
  | [] => .code M.1 M.2.1 M.2.2.1 M.2.2.2.1
  | hh => .codeWith M.1 M.2.1 M.2.2.1 M.2.2.2.1 hh
/-- the contract of a method at the ghost heap G -/
def wk_C (w : WD) (M : MI) (d b : Nat) (As : List WV) (G : GH) (P : Option WV → GH → Prop) (PX : String → Nat → GH → Prop) : Prop :=
  ∀ l : Launch, l.stackTraces = false → vx_Met l M.1 (wk_hd M :: lw_all) (wk_rm d b) (wk_P w As G) (wk_Q w P) (wk_X w PX) b (12 * b) (hp_A w)
/-- the frame of a walk -/
def wk_ok (w : WD) (M : MI) (j : JB) (p : Program) (l : Launch) (s : State) (m : MethodId) (args : Array Value) (meth : Method) (c : Code) : Prop :=
  p.tables.exec = Jvm.exec ∧ c.code = M.2.1 ∧ c.maxLocals = M.2.2.1 ∧ meth.sig.returnType = M.2.2.2.1 ∧ meth.locks = false ∧ s.vm.findClass M.1.cls = some m.cls ∧ (∀ x ∈ lw_all, x.before args s = true) ∧ hp_K w s ∧ c.exceptionTable.toList = tableOf M.2.2.2.2 ∧ meth.name = M.1.name ∧ l.stackTraces = false ∧ s.heap.size = j.2.2.2.2.1 ∧ hp_sl s.heap = j.2.2.2.2.2
def wk_lv (lv : List (Nat × WV)) : List (Nat × Value) := lv.map (fun q => (q.1, wk_v q.2))
/-- from this frame the walk comes to its end; r: what is left of the budget -/
def wk_V (w : WD) (M : MI) (j : JB) (pc : Nat) (lv : List (Nat × WV)) (st : List WV) (G : GH) (r : Nat) : Prop :=
  ∀ (p : Program) (l : Launch) (e : Env) (s : State) (m : MethodId) (args : Array Value) (below : List Frame) (meth : Method) (c : Code), wk_ok w M j p l s m args meth c →
    ∀ (H : Heap) (locs : List Loc) (cells slots : Nat) (ls : Array Slot), hp_R w G H → va_S (hp_A w) s.heap H locs → cells + r ≤ j.2.1 → slots + 12 * r ≤ 12 * j.2.1 → lv_has ls M.2.2.1 (wk_lv lv) →
      W p l e (wk_rm j.1 j.2.1) s m args below meth c H locs cells slots (vx_MQ below (wk_Q w j.2.2.1) (wk_X w j.2.2.2.1) args s j.2.1 (12 * j.2.1) (hp_A w)) (F0 m pc ls (st.map wk_v))
/-- from this frame, with q of the class E thrown over it -/
def wk_T (w : WD) (M : MI) (j : JB) (pc : Nat) (lv : List (Nat × WV)) (G : GH) (r : Nat) (E : String) (q : Nat) : Prop :=
  ∀ (p : Program) (l : Launch) (e : Env) (s : State) (m : MethodId) (args : Array Value) (below : List Frame) (meth : Method) (c : Code), wk_ok w M j p l s m args meth c →
    ∀ (H : Heap) (locs : List Loc) (cells slots : Nat) (ls : Array Slot) (st : List Value) (ce : Cell), hp_R w G H → va_S (hp_A w) s.heap H locs → cells + r ≤ j.2.1 → slots + 12 * r ≤ 12 * j.2.1 → lv_has ls M.2.2.1 (wk_lv lv) →
      H[q]? = some ce → ce.vm = .none → s.vm.findClass E = some ce.cls →
      vx_W p l e (wk_rm j.1 j.2.1) s m args below meth c H locs cells slots (vx_MQ below (wk_Q w j.2.2.1) (wk_X w j.2.2.2.1) args s j.2.1 (12 * j.2.1) (hp_A w)) (F0 m pc ls st) q
