/-! THE ABSTRACT HEAP (own work): cells by address, a judgement gJ that hides the heap, one row an instruction -/
abbrev gv : Type := Int32 ⊕ (Option Nat ⊕ UInt32)
abbrev gi (x : Int32) : gv := .inl x
abbrev ga (r : Option Nat) : gv := .inr (.inl r)
abbrev gfl (f : UInt32) : gv := .inr (.inr f)
def gV : gv → Value
  | .inl x => .int x
  | .inr (.inl r) => va_rf r
  | .inr (.inr f) => .float f
theorem gV_cat (v : gv) : (gV v).category = 1 := by
  rcases v with x | r | f
  · rfl
  · cases r <;> rfl
  · rfl
abbrev gE : Type := (Nat × List gv) ⊕ (Nat × Nat × ((Nat → Int32) ⊕ (Nat → Option Nat)))
def gVE (dA : Nat → ClassId) : gE → va_E
  | .inl (ci, fs) => .inr (ci, fs.map gV)
  | .inr (t, n, .inl f) => .inl (dA t, n, .inl f)
  | .inr (t, n, .inr g) => .inl (dA t, n, .inr (.inr (.inr (.inr g))))
/-- which cells may be written -/
def gWr : gE → Prop
  | .inl (_, fs) => fs ≠ []
  | .inr (_, n, _) => 0 < n
/-- cells, heap's size, slots in all, constants: 0 the most cells, 1 the most slots, 2 RUNS, 3 ENDS, 4 BREAKS, 5 the empty array of lists, 6 UNASSIGNED_STACK, 7 SUPPRESSED_SENTINEL, 8 Object[].class -/
abbrev gw : Type := (Nat → Option gE) × Nat × Nat × (Nat → Nat)
def hsum (H : Heap) : Nat := (H.toList.map (fun c => c.slots.size)).sum
def gOK (D : va_G) (dA : Nat → ClassId) (A : Nat → Prop) (K : Nat → Nat) (w : gw) (H : Heap) : Prop :=
  (∀ (a : Nat) (e : gE), w.1 a = some e → va_at D gCl (a, gVE dA e) H) ∧ H.size = w.2.1 ∧ hsum H = w.2.2.1 ∧ w.2.2.2 = K ∧ (∀ q, w.2.1 ≤ q → A q) ∧ (∀ (a : Nat) (e : gE), w.1 a = some e → gWr e → A a) ∧ w.2.1 ≤ K 0 ∧ w.2.2.1 ≤ K 1 ∧ (∀ (a : Nat) (e : gE), w.1 a = some e → ∃ cell : Cell, H[a]? = some cell ∧ cell.monitor = {})
def gTys (dA : Nat → ClassId) : List (ClassId × FieldType) := [(dA 0, .int), (dA 1, .byte), (dA 2, .object "java/lang/Object"), (dA 3, .object "WorkflowEngine$Version"), (dA 4, .object "WorkflowEngine$Instance"), (dA 5, .object "WorkflowEngine$Run"), (dA 6, .object "WorkflowEngine$Outcome")]
/-- two statics that may be null: 0 says null, n + 1 the address n -/
def gCo (n : Nat) : Option Nat := if n = 0 then none else some (n - 1)
/-- the empty array of lists: of the start, so of its cell no more is known than this -/
def gE5 (A : Nat → Prop) (K : Nat → Nat) (U : State) : Prop := ∃ cell : Cell, U.heap[K 5]? = some cell ∧ U.isArrayOf cell (.object "java/lang/Object") ∧ cell.slots.size = 0 ∧ ¬ A (K 5)
theorem gE5.moved {A : Nat → Prop} {K : Nat → Nat} {u U : State} (hvm : u.vm.Alike U.vm) (hH : ∀ q : Nat, q < u.heap.size → ¬ A q → U.heap[q]? = u.heap[q]?) (h : gE5 A K u) : gE5 A K U := by
  obtain ⟨cell, h1, h2, h3, h4⟩ := h
  exact ⟨cell, by rw [hH _ (Array.getElem?_eq_some_iff.mp h1).1 h4]; exact h1, State.isArrayOf_alike hvm h2, h3, h4⟩
/-- what stays true of the tables and of the statics all through the run -/
def gK (D : va_G) (dA : Nat → ClassId) (A : Nat → Prop) (K : Nat → Nat) (U : State) : Prop :=
  va_K D gCl (gTys dA) U ∧ (∀ w ∈ gNw, va_Nw w U) ∧ (∀ C ∈ gAO, va_AO C U) ∧ (∀ q ∈ gNc, va_Nc q.1 q.2 U) ∧
  (va_Z "WorkflowEngine$Outcome" "RUNS" "LWorkflowEngine$Outcome;" (.ref (K 2)) A U U.heap ∧ va_Z "WorkflowEngine$Outcome" "ENDS" "LWorkflowEngine$Outcome;" (.ref (K 3)) A U U.heap ∧ va_Z "WorkflowEngine$Outcome" "BREAKS" "LWorkflowEngine$Outcome;" (.ref (K 4)) A U U.heap ∧ va_Z "java/util/ArrayList" "DEFAULTCAPACITY_EMPTY_ELEMENTDATA" "[Ljava/lang/Object;" (.ref (K 5)) A U U.heap ∧ va_Z "java/lang/Throwable" "UNASSIGNED_STACK" "[Ljava/lang/StackTraceElement;" (va_rf (gCo (K 6))) A U U.heap ∧ va_Z "java/lang/Throwable" "SUPPRESSED_SENTINEL" "Ljava/util/List;" (va_rf (gCo (K 7))) A U U.heap) ∧
  (va_O "WorkflowEngine$Outcome$1" (K 2) A U U.heap ∧ va_O "WorkflowEngine$Outcome$2" (K 3) A U U.heap ∧ va_O "WorkflowEngine$Outcome$3" (K 4) A U U.heap ∧ va_Mi "[Ljava/lang/Object;" (K 8) U ∧ gE5 A K U)
def gQ (D : va_G) (dA : Nat → ClassId) (A : Nat → Prop) (K : Nat → Nat) (v : Option gv) (w1 : gw) : Array Value → State → Outcome → State → Prop := fun _ st o t => (o = .returned (v.map gV) ∧ gOK D dA A K w1 t.heap) ∧ va_F A st t
def gPc (D : va_G) (dA : Nat → ClassId) (A : Nat → Prop) (K : Nat → Nat) (As : List gv) (w : gw) : Array Value → State → Prop := va_Pc (As.map gV) (fun U => gOK D dA A K w U.heap ∧ gK D dA A K U)
abbrev gRm (K : Nat → Nat) (w : gw) (h : Nat) : Room := { frames := h, cells := K 0 - w.2.1, slots := K 1 - w.2.2.1, locals := 64 * h }
/-- a method's contract at one run: from w with these arguments it returns v and leaves w1 -/
def gMet (D : va_G) (dA : Nat → ClassId) (A : Nat → Prop) (K : Nat → Nat) (l : Launch) (y : MethodName) (ws : List Cond) (h : Nat) (As : List gv) (v : Option gv) (w w1 : gw) : Prop :=
  Met l y ws (gRm K w h) (gPc D dA A K As w) (gQ D dA A K v w1) (K 0 - w.2.1) (K 1 - w.2.2.1) A
def gC (D : va_G) (dA : Nat → ClassId) (A : Nat → Prop) (K : Nat → Nat) (p : Program) (R : Room) (s : State) (m : MethodId) (args : Array Value) (meth : Method) (c : Code) (cc : ByteArray) (nL : Nat) (own : String) (h : Nat) : Prop :=
  p.tables.exec = Jvm.exec ∧ c.code = cc ∧ c.maxLocals = nL ∧ s.vm.findClass own = some m.cls ∧ (∀ w ∈ lw_all, w.before args s = true) ∧ gK D dA A K s ∧ (∀ q, s.heap.size ≤ q → A q) ∧ K 0 ≤ s.heap.size + R.cells ∧ K 1 ≤ hsum s.heap + R.slots ∧ meth.locks = false ∧ h ≤ R.frames ∧ 64 * h ≤ R.locals
/-- the judgement: from every heap that holds w the machine at pc, with these locals and this stack, comes to Q -/
def gJ (D : va_G) (dA : Nat → ClassId) (A : Nat → Prop) (K : Nat → Nat) (p : Program) (l : Launch) (e : Env) (R : Room) (s : State) (m : MethodId) (args : Array Value) (below : List Frame) (meth : Method) (c : Code) (Q : State → Prop) (nL : Nat) (pc : Nat) (lv : List (Nat × gv)) (st : List gv) (w : gw) : Prop :=
  ∀ (H : Heap) (locs : List Loc) (ls : Array Slot), gOK D dA A K w H → va_S A s.heap H locs → hsum s.heap ≤ hsum H → lv_has ls nL (lv.map (fun q => (q.1, gV q.2))) → ∀ (cells slots : Nat), W p l e R s m args below meth c H locs cells slots Q (F0 m pc ls (st.map gV))
theorem hsum_push (H : Heap) (c : Cell) : hsum (H.push c) = hsum H + c.slots.size := by
  simp [hsum, Array.toList_push, List.map_append, List.sum_append]
theorem hsum_set {H H1 : Heap} {a : Nat} {cell c1 : Cell} (h0 : H[a]? = some cell) (h1 : H1[a]? = some c1) (hz : c1.slots.size = cell.slots.size) (z : H1.size = H.size) (o : ∀ q, q ≠ a → H1[q]? = H[q]?) : hsum H1 = hsum H := by
  unfold hsum
  congr 1
  apply List.ext_getElem?
  intro i
  rw [List.getElem?_map, List.getElem?_map, Array.getElem?_toList, Array.getElem?_toList]
  by_cases hi : i = a
  · subst hi
    rw [h0, h1]
    simp [hz]
  · rw [o i hi]
section JR
variable {D : va_G} {dA : Nat → ClassId} {A : Nat → Prop} {K : Nat → Nat} {p : Program} {l : Launch} {e : Env} {R : Room} {s : State} {m : MethodId} {args : Array Value} {below : List Frame} {meth : Method} {c : Code} {Q : State → Prop} {nL : Nat} {cc : ByteArray} {own : String} {pc : Nat} {lv : List (Nat × gv)} {st : List gv} {w : gw} {h : Nat}
theorem gW_sharp {H : Heap} {locs : List Loc} {cells slots : Nat} {g : JFrame} (hs : hsum s.heap ≤ hsum H) (k : W p l e R s m args below meth c H locs (H.size - s.heap.size) (hsum H - hsum s.heap) Q g) : W p l e R s m args below meth c H locs cells slots Q g := by
  intro T hT X
  obtain ⟨a1, a2, a3, a4, a5, a6⟩ := X.same
  have a2 : s.heap.size ≤ T.heap.size := a2
  have a6 : ∀ a c, s.heap[a]? = some c → ∃ c', T.heap[a]? = some c' ∧ c' = { c with slots := c'.slots } ∧ c'.slots.size = c.slots.size ∧ ∀ i, (⟨a, i⟩ : Loc) ∉ locs → c'.slots[i]? = c.slots[i]? := a6
  have hpre : (T.heap.toList.take s.heap.size).map (fun c => c.slots.size) = s.heap.toList.map (fun c => c.slots.size) := by
    apply List.ext_getElem?
    intro i
    rw [List.getElem?_map, List.getElem?_map, List.getElem?_take, Array.getElem?_toList, Array.getElem?_toList]
    by_cases hi : i < s.heap.size
    · rw [if_pos hi]
      have h1 : s.heap[i]? = some s.heap[i] := Array.getElem?_eq_getElem hi
      obtain ⟨c', h2, -, h3, -⟩ := a6 i _ h1
      rw [h1, h2]
      simp [h3]
    · rw [if_neg hi, Array.getElem?_eq_none (by omega)]
  have hsplit : hsum T.heap = hsum s.heap + ((T.heap.toList.drop s.heap.size).map (fun c => c.slots.size)).sum := by
    have h1 := congrArg List.sum hpre
    unfold hsum
    rw [← h1, ← List.sum_append, ← List.map_append, List.take_append_drop]
  refine k T hT { X with same := ⟨a1, a2, ?_, a4, ?_, a6⟩ }
  · show T.heap.size ≤ s.heap.size + (H.size - s.heap.size)
    rw [hT] at a2 ⊢
    omega
  · show ((T.heap.toList.drop s.heap.size).map (fun c => c.slots.size)).sum ≤ hsum H - hsum s.heap
    rw [← hT]
    omega
theorem lk_at {ls : Array Slot} {lv : List (Nat × gv)} (h : lv_has ls nL (lv.map (fun q => (q.1, gV q.2)))) {i : Nat} {v : gv} (hk : lv.lookup i = some v) : ls[i]? = some (.val (gV v)) := by
  have hm : (i, v) ∈ lv := by
    induction lv with
    | nil => simp at hk
    | cons q t ih =>
      obtain ⟨j, u⟩ := q
      rw [List.lookup_cons] at hk
      cases hj : (i == j) with
      | true =>
        rw [hj] at hk
        cases hk
        rw [eq_of_beq hj]
        exact List.mem_cons_self
      | false =>
        rw [hj] at hk
        have h2 : lv_has ls nL (t.map (fun q => (q.1, gV q.2))) := ⟨h.1, h.2.1, fun q hq => h.2.2 q (by rw [List.map_cons]; exact List.mem_cons_of_mem _ hq)⟩
        exact List.mem_cons_of_mem _ (ih h2 hk)
  exact h.2.2 (i, gV v) (List.mem_map.mpr ⟨(i, v), hm, rfl⟩)
def gSet (i : Nat) (v : gv) (lv : List (Nat × gv)) : List (Nat × gv) := (i, v) :: lv.filter (fun q => !(q.1 == i))
theorem lk_set {ls' : Array Slot} {i : Nat} {v : gv} {lv lv' : List (Nat × gv)} (h : gSet i v lv = lv') (h2 : lv_has ls' nL ((i, gV v) :: (lv.map (fun q => (q.1, gV q.2))).filter (fun q => !(q.1 == i) && !(q.1 + 1 == i && q.2.category == 2)))) : lv_has ls' nL (lv'.map (fun q => (q.1, gV q.2))) := by
  subst h
  have he : (gSet i v lv).map (fun q => (q.1, gV q.2)) = (i, gV v) :: (lv.map (fun q => (q.1, gV q.2))).filter (fun q => !(q.1 == i) && !(q.1 + 1 == i && q.2.category == 2)) := by
    unfold gSet
    rw [List.map_cons, List.filter_map]
    congr 2
    apply List.filter_congr
    intro q _
    simp [gV_cat]
  rw [he]
  exact h2
theorem lk_ix {lv : List (Nat × gv)} {i : Nat} {v : gv} (hk : lv.lookup i = some v) : ∃ j : Nat, (lv.map (fun q => (q.1, gV q.2)))[j]? = some (i, gV v) := by
  induction lv with
  | nil => simp at hk
  | cons q t ih =>
    obtain ⟨j, u⟩ := q
    rw [List.lookup_cons] at hk
    cases hj : (i == j) with
    | true =>
      rw [hj] at hk
      cases hk
      exact ⟨0, by rw [eq_of_beq hj]; rfl⟩
    | false =>
      rw [hj] at hk
      obtain ⟨n, hn⟩ := ih hk
      exact ⟨n + 1, by rw [List.map_cons]; exact hn⟩
def gSub (lv' lv : List (Nat × gv)) : Prop := ∀ q ∈ lv', q ∈ lv
theorem j_sub {lv' : List (Nat × gv)} (h : ∀ q ∈ lv', lv.lookup q.1 = some q.2) (k : gJ D dA A K p l e R s m args below meth c Q nL pc lv' st w) : gJ D dA A K p l e R s m args below meth c Q nL pc lv st w := by
  intro H locs ls h1 h2 h3 h4 cells slots
  refine k H locs ls h1 h2 h3 ⟨h4.1, h4.2.1, fun q hq => ?_⟩ cells slots
  obtain ⟨q0, hq0, e0⟩ := List.mem_map.mp hq
  rw [← e0]
  exact lk_at h4 (h q0 hq0)
theorem j_iconst (C : gC D dA A K p R s m args meth c cc nL own h) {n : Int} {v : Int32} (d : decode cc pc = .ok (.iconst n, 1)) (hv : Int32.ofInt n = v) (k : gJ D dA A K p l e R s m args below meth c Q nL (pc + 1) lv (gi v :: st) w) : gJ D dA A K p l e R s m args below meth c Q nL pc lv st w := fun H locs ls h1 h2 h3 h4 cells slots => lv_iconst C.1 C.2.1 d hv (k H locs ls h1 h2 h3 h4 cells slots)
theorem j_bipush (C : gC D dA A K p R s m args meth c cc nL own h) {n : Int} {v : Int32} (d : decode cc pc = .ok (.bipush n, 2)) (hv : (Int8.ofInt n).toInt32 = v) (k : gJ D dA A K p l e R s m args below meth c Q nL (pc + 2) lv (gi v :: st) w) : gJ D dA A K p l e R s m args below meth c Q nL pc lv st w := fun H locs ls h1 h2 h3 h4 cells slots => lv_bipush C.1 C.2.1 d hv (k H locs ls h1 h2 h3 h4 cells slots)
theorem j_sipush (C : gC D dA A K p R s m args meth c cc nL own h) {n : Int} {v : Int32} (d : decode cc pc = .ok (.sipush n, 3)) (hv : (Int16.ofInt n).toInt32 = v) (k : gJ D dA A K p l e R s m args below meth c Q nL (pc + 3) lv (gi v :: st) w) : gJ D dA A K p l e R s m args below meth c Q nL pc lv st w := fun H locs ls h1 h2 h3 h4 cells slots => lv_sipush C.1 C.2.1 d hv (k H locs ls h1 h2 h3 h4 cells slots)
theorem j_null (C : gC D dA A K p R s m args meth c cc nL own h)  (d : decode cc pc = .ok (.aconst_null, 1))  (k : gJ D dA A K p l e R s m args below meth c Q nL (pc + 1) lv (ga none :: st) w) : gJ D dA A K p l e R s m args below meth c Q nL pc lv st w := fun H locs ls h1 h2 h3 h4 cells slots => lv_null C.1 C.2.1 d  (k H locs ls h1 h2 h3 h4 cells slots)
theorem j_ldc (C : gC D dA A K p R s m args meth c cc nL own h) {index : Nat} {v : Int32} (hq : Cond.constant own index v ∈ lw_all) (d : decode cc pc = .ok (.ldc index, 2)) (k : gJ D dA A K p l e R s m args below meth c Q nL (pc + 2) lv (gi v :: st) w) : gJ D dA A K p l e R s m args below meth c Q nL pc lv st w := fun H locs ls h1 h2 h3 h4 cells slots => lv_ldc C.1 C.2.1 C.2.2.2.1 (C.2.2.2.2.1 _ hq) d (k H locs ls h1 h2 h3 h4 cells slots)
theorem j_iload_n (C : gC D dA A K p R s m args meth c cc nL own h) {kk : Fin 4} {x : Int32} (d : decode cc pc = .ok (.iload_n kk, 1)) (hk : lv.lookup (kk : Nat) = some (gi x)) (k : gJ D dA A K p l e R s m args below meth c Q nL (pc + 1) lv (gi x :: st) w) : gJ D dA A K p l e R s m args below meth c Q nL pc lv st w := fun H locs ls h1 h2 h3 h4 cells slots => lv_iload_n C.1 C.2.1 d rfl (lk_at h4 hk) (k H locs ls h1 h2 h3 h4 cells slots)
theorem j_fload_n (C : gC D dA A K p R s m args meth c cc nL own h) {kk : Fin 4} {x : UInt32} (d : decode cc pc = .ok (.fload_n kk, 1)) (hk : lv.lookup (kk : Nat) = some (gfl x)) (k : gJ D dA A K p l e R s m args below meth c Q nL (pc + 1) lv (gfl x :: st) w) : gJ D dA A K p l e R s m args below meth c Q nL pc lv st w := fun H locs ls h1 h2 h3 h4 cells slots => lv_fload_n C.1 C.2.1 d rfl (lk_at h4 hk) (k H locs ls h1 h2 h3 h4 cells slots)
theorem j_iload (C : gC D dA A K p R s m args meth c cc nL own h) {i : Nat} {x : Int32} (d : decode cc pc = .ok (.iload i, 2)) (hk : lv.lookup i = some (gi x)) (k : gJ D dA A K p l e R s m args below meth c Q nL (pc + 2) lv (gi x :: st) w) : gJ D dA A K p l e R s m args below meth c Q nL pc lv st w := fun H locs ls h1 h2 h3 h4 cells slots => lv_iload C.1 C.2.1 d (lk_at h4 hk) (k H locs ls h1 h2 h3 h4 cells slots)
theorem j_aload_n (C : gC D dA A K p R s m args meth c cc nL own h) {kk : Fin 4} {x : Option Nat} (d : decode cc pc = .ok (.aload_n kk, 1)) (hk : lv.lookup (kk : Nat) = some (ga x)) (k : gJ D dA A K p l e R s m args below meth c Q nL (pc + 1) lv (ga x :: st) w) : gJ D dA A K p l e R s m args below meth c Q nL pc lv st w := by
  intro H locs ls h1 h2 h3 h4 cells slots
  have hq := lk_at h4 hk
  cases x with
  | none => exact lv_aload_nN C.1 C.2.1 d rfl hq (k H locs ls h1 h2 h3 h4 cells slots)
  | some a => exact lv_aload_n C.1 C.2.1 d rfl hq (k H locs ls h1 h2 h3 h4 cells slots)
theorem j_aload (C : gC D dA A K p R s m args meth c cc nL own h) {i : Nat} {x : Option Nat} (d : decode cc pc = .ok (.aload i, 2)) (hk : lv.lookup i = some (ga x)) (k : gJ D dA A K p l e R s m args below meth c Q nL (pc + 2) lv (ga x :: st) w) : gJ D dA A K p l e R s m args below meth c Q nL pc lv st w := by
  intro H locs ls h1 h2 h3 h4 cells slots
  have hq := lk_at h4 hk
  cases x with
  | none => exact lv_aloadN C.1 C.2.1 d hq (k H locs ls h1 h2 h3 h4 cells slots)
  | some a => exact lv_aload C.1 C.2.1 d hq (k H locs ls h1 h2 h3 h4 cells slots)
theorem j_istore_n (C : gC D dA A K p R s m args meth c cc nL own h) {kk : Fin 4} {x : Int32} {lv' : List (Nat × gv)} (d : decode cc pc = .ok (.istore_n kk, 1)) (hn : (kk : Nat) < nL) (hl : gSet (kk : Nat) (gi x) lv = lv') (k : gJ D dA A K p l e R s m args below meth c Q nL (pc + 1) lv' st w) : gJ D dA A K p l e R s m args below meth c Q nL pc lv (gi x :: st) w := fun H locs ls h1 h2 h3 h4 cells slots => lv_istore_n C.1 C.2.1 d rfl h4 hn rfl (fun ls' h5 => k H locs ls' h1 h2 h3 (lk_set hl h5) cells slots)
theorem j_istore (C : gC D dA A K p R s m args meth c cc nL own h) {i : Nat} {x : Int32} {lv' : List (Nat × gv)} (d : decode cc pc = .ok (.istore i, 2)) (hn : i < nL) (hl : gSet i (gi x) lv = lv') (k : gJ D dA A K p l e R s m args below meth c Q nL (pc + 2) lv' st w) : gJ D dA A K p l e R s m args below meth c Q nL pc lv (gi x :: st) w := fun H locs ls h1 h2 h3 h4 cells slots => lv_istore C.1 C.2.1 d h4 hn rfl (fun ls' h5 => k H locs ls' h1 h2 h3 (lk_set hl h5) cells slots)
theorem j_astore_n (C : gC D dA A K p R s m args meth c cc nL own h) {kk : Fin 4} {x : Option Nat} {lv' : List (Nat × gv)} (d : decode cc pc = .ok (.astore_n kk, 1)) (hn : (kk : Nat) < nL) (hl : gSet (kk : Nat) (ga x) lv = lv') (k : gJ D dA A K p l e R s m args below meth c Q nL (pc + 1) lv' st w) : gJ D dA A K p l e R s m args below meth c Q nL pc lv (ga x :: st) w := by
  intro H locs ls h1 h2 h3 h4 cells slots
  cases x with
  | none => exact lv_astore_nN C.1 C.2.1 d rfl h4 hn rfl (fun ls' h5 => k H locs ls' h1 h2 h3 (lk_set hl h5) cells slots)
  | some a => exact lv_astore_n C.1 C.2.1 d rfl h4 hn rfl (fun ls' h5 => k H locs ls' h1 h2 h3 (lk_set hl h5) cells slots)
theorem j_astore (C : gC D dA A K p R s m args meth c cc nL own h) {i : Nat} {x : Option Nat} {lv' : List (Nat × gv)} (d : decode cc pc = .ok (.astore i, 2)) (hn : i < nL) (hl : gSet i (ga x) lv = lv') (k : gJ D dA A K p l e R s m args below meth c Q nL (pc + 2) lv' st w) : gJ D dA A K p l e R s m args below meth c Q nL pc lv (ga x :: st) w := by
  intro H locs ls h1 h2 h3 h4 cells slots
  cases x with
  | none => exact lv_astoreN C.1 C.2.1 d h4 hn rfl (fun ls' h5 => k H locs ls' h1 h2 h3 (lk_set hl h5) cells slots)
  | some a => exact lv_astore C.1 C.2.1 d h4 hn rfl (fun ls' h5 => k H locs ls' h1 h2 h3 (lk_set hl h5) cells slots)
theorem j_iinc (C : gC D dA A K p R s m args meth c cc nL own h) {i : Nat} {n : Int} {x v : Int32} {lv' : List (Nat × gv)} (d : decode cc pc = .ok (.iinc i n, 3)) (hk : lv.lookup i = some (gi x)) (hv : x + Int32.ofInt n = v) (hn : i < nL) (hl : gSet i (gi v) lv = lv') (k : gJ D dA A K p l e R s m args below meth c Q nL (pc + 3) lv' st w) : gJ D dA A K p l e R s m args below meth c Q nL pc lv st w := by
  intro H locs ls h1 h2 h3 h4 cells slots
  obtain ⟨j, hj⟩ : ∃ j : Nat, (lv.map (fun q => (q.1, gV q.2)))[j]? = some (i, .int x) := lk_ix hk
  exact lv_iinc C.1 C.2.1 d h4 hj hv hn rfl (fun ls' h5 => k H locs ls' h1 h2 h3 (lk_set hl h5) cells slots)
theorem j_iadd (C : gC D dA A K p R s m args meth c cc nL own h) {x y : Int32} (d : decode cc pc = .ok (.iadd, 1))  (k : gJ D dA A K p l e R s m args below meth c Q nL (pc + 1) lv (gi (x + y) :: st) w) : gJ D dA A K p l e R s m args below meth c Q nL pc lv (gi y :: gi x :: st) w := fun H locs ls h1 h2 h3 h4 cells slots => lv_iadd C.1 C.2.1 d  (k H locs ls h1 h2 h3 h4 cells slots)
theorem j_isub (C : gC D dA A K p R s m args meth c cc nL own h) {x y : Int32} (d : decode cc pc = .ok (.isub, 1))  (k : gJ D dA A K p l e R s m args below meth c Q nL (pc + 1) lv (gi (x - y) :: st) w) : gJ D dA A K p l e R s m args below meth c Q nL pc lv (gi y :: gi x :: st) w := fun H locs ls h1 h2 h3 h4 cells slots => lv_isub C.1 C.2.1 d  (k H locs ls h1 h2 h3 h4 cells slots)
theorem j_imul (C : gC D dA A K p R s m args meth c cc nL own h) {x y : Int32} (d : decode cc pc = .ok (.imul, 1))  (k : gJ D dA A K p l e R s m args below meth c Q nL (pc + 1) lv (gi (x * y) :: st) w) : gJ D dA A K p l e R s m args below meth c Q nL pc lv (gi y :: gi x :: st) w := fun H locs ls h1 h2 h3 h4 cells slots => lv_imul C.1 C.2.1 d  (k H locs ls h1 h2 h3 h4 cells slots)
theorem j_iand (C : gC D dA A K p R s m args meth c cc nL own h) {x y : Int32} (d : decode cc pc = .ok (.iand, 1))  (k : gJ D dA A K p l e R s m args below meth c Q nL (pc + 1) lv (gi (x &&& y) :: st) w) : gJ D dA A K p l e R s m args below meth c Q nL pc lv (gi y :: gi x :: st) w := fun H locs ls h1 h2 h3 h4 cells slots => lv_iand C.1 C.2.1 d  (k H locs ls h1 h2 h3 h4 cells slots)
theorem j_ishl (C : gC D dA A K p R s m args meth c cc nL own h) {x y : Int32} (d : decode cc pc = .ok (.ishl, 1))  (k : gJ D dA A K p l e R s m args below meth c Q nL (pc + 1) lv (gi (x <<< (y &&& 31)) :: st) w) : gJ D dA A K p l e R s m args below meth c Q nL pc lv (gi y :: gi x :: st) w := fun H locs ls h1 h2 h3 h4 cells slots => lv_ishl C.1 C.2.1 d  (k H locs ls h1 h2 h3 h4 cells slots)
theorem j_ishr (C : gC D dA A K p R s m args meth c cc nL own h) {x y : Int32} (d : decode cc pc = .ok (.ishr, 1))  (k : gJ D dA A K p l e R s m args below meth c Q nL (pc + 1) lv (gi (x >>> (y &&& 31)) :: st) w) : gJ D dA A K p l e R s m args below meth c Q nL pc lv (gi y :: gi x :: st) w := fun H locs ls h1 h2 h3 h4 cells slots => lv_ishr C.1 C.2.1 d  (k H locs ls h1 h2 h3 h4 cells slots)
theorem j_ineg (C : gC D dA A K p R s m args meth c cc nL own h) {x : Int32} (d : decode cc pc = .ok (.ineg, 1))  (k : gJ D dA A K p l e R s m args below meth c Q nL (pc + 1) lv (gi (-x) :: st) w) : gJ D dA A K p l e R s m args below meth c Q nL pc lv (gi x :: st) w := fun H locs ls h1 h2 h3 h4 cells slots => lv_ineg C.1 C.2.1 d  (k H locs ls h1 h2 h3 h4 cells slots)
theorem j_i2b (C : gC D dA A K p R s m args meth c cc nL own h) {x : Int32} (d : decode cc pc = .ok (.i2b, 1))  (k : gJ D dA A K p l e R s m args below meth c Q nL (pc + 1) lv (gi x.toInt8.toInt32 :: st) w) : gJ D dA A K p l e R s m args below meth c Q nL pc lv (gi x :: st) w := fun H locs ls h1 h2 h3 h4 cells slots => lv_i2b C.1 C.2.1 d rfl (k H locs ls h1 h2 h3 h4 cells slots)
theorem j_i2f (C : gC D dA A K p R s m args meth c cc nL own h) {x : Int32} (d : decode cc pc = .ok (.i2f, 1))  (k : gJ D dA A K p l e R s m args below meth c Q nL (pc + 1) lv (gfl (FP.i2f x) :: st) w) : gJ D dA A K p l e R s m args below meth c Q nL pc lv (gi x :: st) w := fun H locs ls h1 h2 h3 h4 cells slots => lv_i2f C.1 C.2.1 d  (k H locs ls h1 h2 h3 h4 cells slots)
theorem j_fdiv (C : gC D dA A K p R s m args meth c cc nL own h) {x y : UInt32} (d : decode cc pc = .ok (.fdiv, 1)) (hne : vf_n32 (FP.fdiv x y)) (k : gJ D dA A K p l e R s m args below meth c Q nL (pc + 1) lv (gfl (FP.fdiv x y) :: st) w) : gJ D dA A K p l e R s m args below meth c Q nL pc lv (gfl y :: gfl x :: st) w := fun H locs ls h1 h2 h3 h4 cells slots => lv_fdiv C.1 C.2.1 d hne (k H locs ls h1 h2 h3 h4 cells slots)
theorem j_fcmp (C : gC D dA A K p R s m args meth c cc nL own h) {x y : UInt32} {op : CmpOp} (d : decode cc pc = .ok (.fcmp op, 1))  (k : gJ D dA A K p l e R s m args below meth c Q nL (pc + 1) lv (gi (Op.cmpValue (FP.fcmp x y) op) :: st) w) : gJ D dA A K p l e R s m args below meth c Q nL pc lv (gfl y :: gfl x :: st) w := fun H locs ls h1 h2 h3 h4 cells slots => lv_fcmp C.1 C.2.1 d  (k H locs ls h1 h2 h3 h4 cells slots)
theorem j_dup (C : gC D dA A K p R s m args meth c cc nL own h) {v : gv} (d : decode cc pc = .ok (.dup, 1))  (k : gJ D dA A K p l e R s m args below meth c Q nL (pc + 1) lv (v :: v :: st) w) : gJ D dA A K p l e R s m args below meth c Q nL pc lv (v :: st) w := fun H locs ls h1 h2 h3 h4 cells slots => lv_dup C.1 C.2.1 d (gV_cat v) (k H locs ls h1 h2 h3 h4 cells slots)
theorem j_pop (C : gC D dA A K p R s m args meth c cc nL own h) {v : gv} (d : decode cc pc = .ok (.pop, 1))  (k : gJ D dA A K p l e R s m args below meth c Q nL (pc + 1) lv st w) : gJ D dA A K p l e R s m args below meth c Q nL pc lv (v :: st) w := fun H locs ls h1 h2 h3 h4 cells slots => lv_pop C.1 C.2.1 d (gV_cat v) (k H locs ls h1 h2 h3 h4 cells slots)
theorem j_dup_x1 (C : gC D dA A K p R s m args meth c cc nL own h) {u v : gv} (d : decode cc pc = .ok (.dup_x1, 1))  (k : gJ D dA A K p l e R s m args below meth c Q nL (pc + 1) lv (v :: u :: v :: st) w) : gJ D dA A K p l e R s m args below meth c Q nL pc lv (v :: u :: st) w := fun H locs ls h1 h2 h3 h4 cells slots => lv_dup_x1 C.1 C.2.1 d (gV_cat v) (gV_cat u) (k H locs ls h1 h2 h3 h4 cells slots)
theorem j_dup2 (C : gC D dA A K p R s m args meth c cc nL own h) {u v : gv} (d : decode cc pc = .ok (.dup2, 1))  (k : gJ D dA A K p l e R s m args below meth c Q nL (pc + 1) lv (v :: u :: v :: u :: st) w) : gJ D dA A K p l e R s m args below meth c Q nL pc lv (v :: u :: st) w := fun H locs ls h1 h2 h3 h4 cells slots => lv_dup2_11 C.1 C.2.1 d (gV_cat v) (gV_cat u) (k H locs ls h1 h2 h3 h4 cells slots)
theorem j_goto (C : gC D dA A K p R s m args meth c cc nL own h) {off : Int} {tgt : Nat} (d : decode cc pc = .ok (.goto off, 3)) (ht : (pc : Int) + off = (tgt : Int)) (k : gJ D dA A K p l e R s m args below meth c Q nL tgt lv st w) : gJ D dA A K p l e R s m args below meth c Q nL pc lv st w := fun H locs ls h1 h2 h3 h4 cells slots => lv_goto C.1 C.2.1 d ht (k H locs ls h1 h2 h3 h4 cells slots)
theorem j_if_eq (C : gC D dA A K p R s m args meth c cc nL own h) {x : Int32} {off : Int} {tgt : Nat} (d : decode cc pc = .ok (.ifCond .eq off, 3)) (ht : (pc : Int) + off = (tgt : Int)) (kt : x = 0 → gJ D dA A K p l e R s m args below meth c Q nL tgt lv st w) (kf : ¬ x = 0 → gJ D dA A K p l e R s m args below meth c Q nL (pc + 3) lv st w) : gJ D dA A K p l e R s m args below meth c Q nL pc lv (gi x :: st) w := fun H locs ls h1 h2 h3 h4 cells slots => lv_if_eq C.1 C.2.1 d ht (fun q => kt q H locs ls h1 h2 h3 h4 cells slots) (fun q => kf q H locs ls h1 h2 h3 h4 cells slots)
theorem j_if_ne (C : gC D dA A K p R s m args meth c cc nL own h) {x : Int32} {off : Int} {tgt : Nat} (d : decode cc pc = .ok (.ifCond .ne off, 3)) (ht : (pc : Int) + off = (tgt : Int)) (kt : ¬ x = 0 → gJ D dA A K p l e R s m args below meth c Q nL tgt lv st w) (kf : x = 0 → gJ D dA A K p l e R s m args below meth c Q nL (pc + 3) lv st w) : gJ D dA A K p l e R s m args below meth c Q nL pc lv (gi x :: st) w := fun H locs ls h1 h2 h3 h4 cells slots => lv_if_ne C.1 C.2.1 d ht (fun q => kt q H locs ls h1 h2 h3 h4 cells slots) (fun q => kf q H locs ls h1 h2 h3 h4 cells slots)
theorem j_if_lt (C : gC D dA A K p R s m args meth c cc nL own h) {x : Int32} {off : Int} {tgt : Nat} (d : decode cc pc = .ok (.ifCond .lt off, 3)) (ht : (pc : Int) + off = (tgt : Int)) (kt : x < 0 → gJ D dA A K p l e R s m args below meth c Q nL tgt lv st w) (kf : ¬ x < 0 → gJ D dA A K p l e R s m args below meth c Q nL (pc + 3) lv st w) : gJ D dA A K p l e R s m args below meth c Q nL pc lv (gi x :: st) w := fun H locs ls h1 h2 h3 h4 cells slots => lv_if_lt C.1 C.2.1 d ht (fun q => kt q H locs ls h1 h2 h3 h4 cells slots) (fun q => kf q H locs ls h1 h2 h3 h4 cells slots)
theorem j_if_ge (C : gC D dA A K p R s m args meth c cc nL own h) {x : Int32} {off : Int} {tgt : Nat} (d : decode cc pc = .ok (.ifCond .ge off, 3)) (ht : (pc : Int) + off = (tgt : Int)) (kt : 0 ≤ x → gJ D dA A K p l e R s m args below meth c Q nL tgt lv st w) (kf : ¬ 0 ≤ x → gJ D dA A K p l e R s m args below meth c Q nL (pc + 3) lv st w) : gJ D dA A K p l e R s m args below meth c Q nL pc lv (gi x :: st) w := fun H locs ls h1 h2 h3 h4 cells slots => lv_if_ge C.1 C.2.1 d ht (fun q => kt q H locs ls h1 h2 h3 h4 cells slots) (fun q => kf q H locs ls h1 h2 h3 h4 cells slots)
theorem j_if_gt (C : gC D dA A K p R s m args meth c cc nL own h) {x : Int32} {off : Int} {tgt : Nat} (d : decode cc pc = .ok (.ifCond .gt off, 3)) (ht : (pc : Int) + off = (tgt : Int)) (kt : 0 < x → gJ D dA A K p l e R s m args below meth c Q nL tgt lv st w) (kf : ¬ 0 < x → gJ D dA A K p l e R s m args below meth c Q nL (pc + 3) lv st w) : gJ D dA A K p l e R s m args below meth c Q nL pc lv (gi x :: st) w := fun H locs ls h1 h2 h3 h4 cells slots => lv_if_gt C.1 C.2.1 d ht (fun q => kt q H locs ls h1 h2 h3 h4 cells slots) (fun q => kf q H locs ls h1 h2 h3 h4 cells slots)
theorem j_if_le (C : gC D dA A K p R s m args meth c cc nL own h) {x : Int32} {off : Int} {tgt : Nat} (d : decode cc pc = .ok (.ifCond .le off, 3)) (ht : (pc : Int) + off = (tgt : Int)) (kt : x ≤ 0 → gJ D dA A K p l e R s m args below meth c Q nL tgt lv st w) (kf : ¬ x ≤ 0 → gJ D dA A K p l e R s m args below meth c Q nL (pc + 3) lv st w) : gJ D dA A K p l e R s m args below meth c Q nL pc lv (gi x :: st) w := fun H locs ls h1 h2 h3 h4 cells slots => lv_if_le C.1 C.2.1 d ht (fun q => kt q H locs ls h1 h2 h3 h4 cells slots) (fun q => kf q H locs ls h1 h2 h3 h4 cells slots)
theorem j_icmp_eq (C : gC D dA A K p R s m args meth c cc nL own h) {x y : Int32} {off : Int} {tgt : Nat} (d : decode cc pc = .ok (.if_icmp .eq off, 3)) (ht : (pc : Int) + off = (tgt : Int)) (kt : x = y → gJ D dA A K p l e R s m args below meth c Q nL tgt lv st w) (kf : ¬ x = y → gJ D dA A K p l e R s m args below meth c Q nL (pc + 3) lv st w) : gJ D dA A K p l e R s m args below meth c Q nL pc lv (gi y :: gi x :: st) w := fun H locs ls h1 h2 h3 h4 cells slots => lv_icmp_eq C.1 C.2.1 d ht (fun q => kt q H locs ls h1 h2 h3 h4 cells slots) (fun q => kf q H locs ls h1 h2 h3 h4 cells slots)
theorem j_icmp_ne (C : gC D dA A K p R s m args meth c cc nL own h) {x y : Int32} {off : Int} {tgt : Nat} (d : decode cc pc = .ok (.if_icmp .ne off, 3)) (ht : (pc : Int) + off = (tgt : Int)) (kt : ¬ x = y → gJ D dA A K p l e R s m args below meth c Q nL tgt lv st w) (kf : x = y → gJ D dA A K p l e R s m args below meth c Q nL (pc + 3) lv st w) : gJ D dA A K p l e R s m args below meth c Q nL pc lv (gi y :: gi x :: st) w := fun H locs ls h1 h2 h3 h4 cells slots => lv_icmp_ne C.1 C.2.1 d ht (fun q => kt q H locs ls h1 h2 h3 h4 cells slots) (fun q => kf q H locs ls h1 h2 h3 h4 cells slots)
theorem j_icmp_lt (C : gC D dA A K p R s m args meth c cc nL own h) {x y : Int32} {off : Int} {tgt : Nat} (d : decode cc pc = .ok (.if_icmp .lt off, 3)) (ht : (pc : Int) + off = (tgt : Int)) (kt : x < y → gJ D dA A K p l e R s m args below meth c Q nL tgt lv st w) (kf : ¬ x < y → gJ D dA A K p l e R s m args below meth c Q nL (pc + 3) lv st w) : gJ D dA A K p l e R s m args below meth c Q nL pc lv (gi y :: gi x :: st) w := fun H locs ls h1 h2 h3 h4 cells slots => lv_icmp_lt C.1 C.2.1 d ht (fun q => kt q H locs ls h1 h2 h3 h4 cells slots) (fun q => kf q H locs ls h1 h2 h3 h4 cells slots)
theorem j_icmp_ge (C : gC D dA A K p R s m args meth c cc nL own h) {x y : Int32} {off : Int} {tgt : Nat} (d : decode cc pc = .ok (.if_icmp .ge off, 3)) (ht : (pc : Int) + off = (tgt : Int)) (kt : y ≤ x → gJ D dA A K p l e R s m args below meth c Q nL tgt lv st w) (kf : ¬ y ≤ x → gJ D dA A K p l e R s m args below meth c Q nL (pc + 3) lv st w) : gJ D dA A K p l e R s m args below meth c Q nL pc lv (gi y :: gi x :: st) w := fun H locs ls h1 h2 h3 h4 cells slots => lv_icmp_ge C.1 C.2.1 d ht (fun q => kt q H locs ls h1 h2 h3 h4 cells slots) (fun q => kf q H locs ls h1 h2 h3 h4 cells slots)
theorem j_icmp_gt (C : gC D dA A K p R s m args meth c cc nL own h) {x y : Int32} {off : Int} {tgt : Nat} (d : decode cc pc = .ok (.if_icmp .gt off, 3)) (ht : (pc : Int) + off = (tgt : Int)) (kt : y < x → gJ D dA A K p l e R s m args below meth c Q nL tgt lv st w) (kf : ¬ y < x → gJ D dA A K p l e R s m args below meth c Q nL (pc + 3) lv st w) : gJ D dA A K p l e R s m args below meth c Q nL pc lv (gi y :: gi x :: st) w := fun H locs ls h1 h2 h3 h4 cells slots => lv_icmp_gt C.1 C.2.1 d ht (fun q => kt q H locs ls h1 h2 h3 h4 cells slots) (fun q => kf q H locs ls h1 h2 h3 h4 cells slots)
theorem j_icmp_le (C : gC D dA A K p R s m args meth c cc nL own h) {x y : Int32} {off : Int} {tgt : Nat} (d : decode cc pc = .ok (.if_icmp .le off, 3)) (ht : (pc : Int) + off = (tgt : Int)) (kt : x ≤ y → gJ D dA A K p l e R s m args below meth c Q nL tgt lv st w) (kf : ¬ x ≤ y → gJ D dA A K p l e R s m args below meth c Q nL (pc + 3) lv st w) : gJ D dA A K p l e R s m args below meth c Q nL pc lv (gi y :: gi x :: st) w := fun H locs ls h1 h2 h3 h4 cells slots => lv_icmp_le C.1 C.2.1 d ht (fun q => kt q H locs ls h1 h2 h3 h4 cells slots) (fun q => kf q H locs ls h1 h2 h3 h4 cells slots)
theorem j_acmp_eq (C : gC D dA A K p R s m args meth c cc nL own h) {x y : Option Nat} {off : Int} {tgt : Nat} (d : decode cc pc = .ok (.if_acmp .eq off, 3)) (ht : (pc : Int) + off = (tgt : Int)) (kt : x = y → gJ D dA A K p l e R s m args below meth c Q nL tgt lv st w) (kf : ¬ x = y → gJ D dA A K p l e R s m args below meth c Q nL (pc + 3) lv st w) : gJ D dA A K p l e R s m args below meth c Q nL pc lv (ga y :: ga x :: st) w := fun H locs ls h1 h2 h3 h4 cells slots => lv_acmp_eq C.1 C.2.1 d ht (fun q => kt q H locs ls h1 h2 h3 h4 cells slots) (fun q => kf q H locs ls h1 h2 h3 h4 cells slots)
theorem j_acmp_ne (C : gC D dA A K p R s m args meth c cc nL own h) {x y : Option Nat} {off : Int} {tgt : Nat} (d : decode cc pc = .ok (.if_acmp .ne off, 3)) (ht : (pc : Int) + off = (tgt : Int)) (kt : ¬ x = y → gJ D dA A K p l e R s m args below meth c Q nL tgt lv st w) (kf : x = y → gJ D dA A K p l e R s m args below meth c Q nL (pc + 3) lv st w) : gJ D dA A K p l e R s m args below meth c Q nL pc lv (ga y :: ga x :: st) w := fun H locs ls h1 h2 h3 h4 cells slots => lv_acmp_ne C.1 C.2.1 d ht (fun q => kt q H locs ls h1 h2 h3 h4 cells slots) (fun q => kf q H locs ls h1 h2 h3 h4 cells slots)
theorem j_ifnull (C : gC D dA A K p R s m args meth c cc nL own h) {x : Option Nat} {off : Int} {tgt : Nat} (d : decode cc pc = .ok (.ifnull off, 3)) (ht : (pc : Int) + off = (tgt : Int)) (kt : x = none → gJ D dA A K p l e R s m args below meth c Q nL tgt lv st w) (kf : ∀ a, x = some a → gJ D dA A K p l e R s m args below meth c Q nL (pc + 3) lv st w) : gJ D dA A K p l e R s m args below meth c Q nL pc lv (ga x :: st) w := by
  intro H locs ls h1 h2 h3 h4 cells slots
  cases x with
  | none => exact lv_ifnullN C.1 C.2.1 d ht (kt rfl H locs ls h1 h2 h3 h4 cells slots)
  | some a => exact lv_ifnull C.1 C.2.1 d (kf a rfl H locs ls h1 h2 h3 h4 cells slots)
theorem j_ifnonnull (C : gC D dA A K p R s m args meth c cc nL own h) {x : Option Nat} {off : Int} {tgt : Nat} (d : decode cc pc = .ok (.ifnonnull off, 3)) (ht : (pc : Int) + off = (tgt : Int)) (kt : ∀ a, x = some a → gJ D dA A K p l e R s m args below meth c Q nL tgt lv st w) (kf : x = none → gJ D dA A K p l e R s m args below meth c Q nL (pc + 3) lv st w) : gJ D dA A K p l e R s m args below meth c Q nL pc lv (ga x :: st) w := by
  intro H locs ls h1 h2 h3 h4 cells slots
  cases x with
  | none => exact lv_ifnonnullN C.1 C.2.1 d (kf rfl H locs ls h1 h2 h3 h4 cells slots)
  | some a => exact lv_ifnonnull C.1 C.2.1 d ht (kt a rfl H locs ls h1 h2 h3 h4 cells slots)
theorem j_lookup (C : gC D dA A K p R s m args meth c cc nL own h) {dflt : Int} {ps : Array (Int × Int)} {len : Nat} {x : Int32} {off : Int} {tgt : Nat} (d : decode cc pc = .ok (.lookupswitch dflt ps, len)) (hp : (ps.toList.zip (ps.toList.drop 1)).all (fun (a, next) => a.1 < next.1) = true) (ho : Op.lookupswitch.offset ps.toList dflt x.toInt = off) (ht : (pc : Int) + off = (tgt : Int)) (k : gJ D dA A K p l e R s m args below meth c Q nL tgt lv st w) : gJ D dA A K p l e R s m args below meth c Q nL pc lv (gi x :: st) w := fun H locs ls h1 h2 h3 h4 cells slots => lv_lookup C.1 C.2.1 d hp ho ht (k H locs ls h1 h2 h3 h4 cells slots)
theorem j_tableOut (C : gC D dA A K p R s m args meth c cc nL own h) {dflt lo hi : Int} {offs : Array Int} {len : Nat} {x : Int32} {tgt : Nat} (d : decode cc pc = .ok (.tableswitch dflt lo hi offs, len)) (h : x.toInt < lo ∨ hi < x.toInt) (ht : (pc : Int) + dflt = (tgt : Int)) (k : gJ D dA A K p l e R s m args below meth c Q nL tgt lv st w) : gJ D dA A K p l e R s m args below meth c Q nL pc lv (gi x :: st) w := fun H locs ls h1 h2 h3 h4 cells slots => lv_tableOut C.1 C.2.1 d h ht (k H locs ls h1 h2 h3 h4 cells slots)
theorem j_tableIn (C : gC D dA A K p R s m args meth c cc nL own h) {dflt lo hi : Int} {offs : Array Int} {len : Nat} {x : Int32} {off : Int} {tgt : Nat} (d : decode cc pc = .ok (.tableswitch dflt lo hi offs, len)) (g1 : ¬ x.toInt < lo) (g2 : ¬ hi < x.toInt) (ho : offs[(x.toInt - lo).toNat]? = some off) (ht : (pc : Int) + off = (tgt : Int)) (k : gJ D dA A K p l e R s m args below meth c Q nL tgt lv st w) : gJ D dA A K p l e R s m args below meth c Q nL pc lv (gi x :: st) w := fun H locs ls h1 h2 h3 h4 cells slots => lv_tableIn C.1 C.2.1 d g1 g2 ho ht (k H locs ls h1 h2 h3 h4 cells slots)
end JR
