/-! calls, start, returns, copies, loops over the judgement gJ -/
def gL0 {S ρ : Type} (body : (S → Option ρ) → S → Option ρ) : Nat → S → Option ρ
  | 0 => fun _ => none
  | k + 1 => body (gL0 body k)
theorem gL0_e {S ρ : Type} {body : (S → Option ρ) → S → Option ρ} {y : ρ} (P : S → Prop) (hs : ∀ k : S → Option ρ, (∀  (w : S), k  w = some y → P  w) → ∀  (w : S), body k  w = some y → P  w) : ∀ (n : Nat)  (w : S), gL0 body n  w = some y → P  w := by
  intro n
  induction n with
  | zero => intro  w h; cases h
  | succ n ih => intro  w h; exact hs _ ih  w h
def gL1 {A1 S ρ : Type} (body : (A1 → S → Option ρ) → A1 → S → Option ρ) : Nat → A1 → S → Option ρ
  | 0 => fun _ _ => none
  | k + 1 => body (gL1 body k)
theorem gL1_e {A1 S ρ : Type} {body : (A1 → S → Option ρ) → A1 → S → Option ρ} {y : ρ} (P : A1 → S → Prop) (hs : ∀ k : A1 → S → Option ρ, (∀ (a1 : A1) (w : S), k a1 w = some y → P a1 w) → ∀ (a1 : A1) (w : S), body k a1 w = some y → P a1 w) : ∀ (n : Nat) (a1 : A1) (w : S), gL1 body n a1 w = some y → P a1 w := by
  intro n
  induction n with
  | zero => intro a1 w h; cases h
  | succ n ih => intro a1 w h; exact hs _ ih a1 w h
def gL2 {A1 A2 S ρ : Type} (body : (A1 → A2 → S → Option ρ) → A1 → A2 → S → Option ρ) : Nat → A1 → A2 → S → Option ρ
  | 0 => fun _ _ _ => none
  | k + 1 => body (gL2 body k)
theorem gL2_e {A1 A2 S ρ : Type} {body : (A1 → A2 → S → Option ρ) → A1 → A2 → S → Option ρ} {y : ρ} (P : A1 → A2 → S → Prop) (hs : ∀ k : A1 → A2 → S → Option ρ, (∀ (a1 : A1) (a2 : A2) (w : S), k a1 a2 w = some y → P a1 a2 w) → ∀ (a1 : A1) (a2 : A2) (w : S), body k a1 a2 w = some y → P a1 a2 w) : ∀ (n : Nat) (a1 : A1) (a2 : A2) (w : S), gL2 body n a1 a2 w = some y → P a1 a2 w := by
  intro n
  induction n with
  | zero => intro a1 a2 w h; cases h
  | succ n ih => intro a1 a2 w h; exact hs _ ih a1 a2 w h
def gL3 {A1 A2 A3 S ρ : Type} (body : (A1 → A2 → A3 → S → Option ρ) → A1 → A2 → A3 → S → Option ρ) : Nat → A1 → A2 → A3 → S → Option ρ
  | 0 => fun _ _ _ _ => none
  | k + 1 => body (gL3 body k)
theorem gL3_e {A1 A2 A3 S ρ : Type} {body : (A1 → A2 → A3 → S → Option ρ) → A1 → A2 → A3 → S → Option ρ} {y : ρ} (P : A1 → A2 → A3 → S → Prop) (hs : ∀ k : A1 → A2 → A3 → S → Option ρ, (∀ (a1 : A1) (a2 : A2) (a3 : A3) (w : S), k a1 a2 a3 w = some y → P a1 a2 a3 w) → ∀ (a1 : A1) (a2 : A2) (a3 : A3) (w : S), body k a1 a2 a3 w = some y → P a1 a2 a3 w) : ∀ (n : Nat) (a1 : A1) (a2 : A2) (a3 : A3) (w : S), gL3 body n a1 a2 a3 w = some y → P a1 a2 a3 w := by
  intro n
  induction n with
  | zero => intro a1 a2 a3 w h; cases h
  | succ n ih => intro a1 a2 a3 w h; exact hs _ ih a1 a2 a3 w h
def gL4 {A1 A2 A3 A4 S ρ : Type} (body : (A1 → A2 → A3 → A4 → S → Option ρ) → A1 → A2 → A3 → A4 → S → Option ρ) : Nat → A1 → A2 → A3 → A4 → S → Option ρ
  | 0 => fun _ _ _ _ _ => none
  | k + 1 => body (gL4 body k)
theorem gL4_e {A1 A2 A3 A4 S ρ : Type} {body : (A1 → A2 → A3 → A4 → S → Option ρ) → A1 → A2 → A3 → A4 → S → Option ρ} {y : ρ} (P : A1 → A2 → A3 → A4 → S → Prop) (hs : ∀ k : A1 → A2 → A3 → A4 → S → Option ρ, (∀ (a1 : A1) (a2 : A2) (a3 : A3) (a4 : A4) (w : S), k a1 a2 a3 a4 w = some y → P a1 a2 a3 a4 w) → ∀ (a1 : A1) (a2 : A2) (a3 : A3) (a4 : A4) (w : S), body k a1 a2 a3 a4 w = some y → P a1 a2 a3 a4 w) : ∀ (n : Nat) (a1 : A1) (a2 : A2) (a3 : A3) (a4 : A4) (w : S), gL4 body n a1 a2 a3 a4 w = some y → P a1 a2 a3 a4 w := by
  intro n
  induction n with
  | zero => intro a1 a2 a3 a4 w h; cases h
  | succ n ih => intro a1 a2 a3 a4 w h; exact hs _ ih a1 a2 a3 a4 w h
def gL5 {A1 A2 A3 A4 A5 S ρ : Type} (body : (A1 → A2 → A3 → A4 → A5 → S → Option ρ) → A1 → A2 → A3 → A4 → A5 → S → Option ρ) : Nat → A1 → A2 → A3 → A4 → A5 → S → Option ρ
  | 0 => fun _ _ _ _ _ _ => none
  | k + 1 => body (gL5 body k)
theorem gL5_e {A1 A2 A3 A4 A5 S ρ : Type} {body : (A1 → A2 → A3 → A4 → A5 → S → Option ρ) → A1 → A2 → A3 → A4 → A5 → S → Option ρ} {y : ρ} (P : A1 → A2 → A3 → A4 → A5 → S → Prop) (hs : ∀ k : A1 → A2 → A3 → A4 → A5 → S → Option ρ, (∀ (a1 : A1) (a2 : A2) (a3 : A3) (a4 : A4) (a5 : A5) (w : S), k a1 a2 a3 a4 a5 w = some y → P a1 a2 a3 a4 a5 w) → ∀ (a1 : A1) (a2 : A2) (a3 : A3) (a4 : A4) (a5 : A5) (w : S), body k a1 a2 a3 a4 a5 w = some y → P a1 a2 a3 a4 a5 w) : ∀ (n : Nat) (a1 : A1) (a2 : A2) (a3 : A3) (a4 : A4) (a5 : A5) (w : S), gL5 body n a1 a2 a3 a4 a5 w = some y → P a1 a2 a3 a4 a5 w := by
  intro n
  induction n with
  | zero => intro a1 a2 a3 a4 a5 w h; cases h
  | succ n ih => intro a1 a2 a3 a4 a5 w h; exact hs _ ih a1 a2 a3 a4 a5 w h
def gL6 {A1 A2 A3 A4 A5 A6 S ρ : Type} (body : (A1 → A2 → A3 → A4 → A5 → A6 → S → Option ρ) → A1 → A2 → A3 → A4 → A5 → A6 → S → Option ρ) : Nat → A1 → A2 → A3 → A4 → A5 → A6 → S → Option ρ
  | 0 => fun _ _ _ _ _ _ _ => none
  | k + 1 => body (gL6 body k)
theorem gL6_e {A1 A2 A3 A4 A5 A6 S ρ : Type} {body : (A1 → A2 → A3 → A4 → A5 → A6 → S → Option ρ) → A1 → A2 → A3 → A4 → A5 → A6 → S → Option ρ} {y : ρ} (P : A1 → A2 → A3 → A4 → A5 → A6 → S → Prop) (hs : ∀ k : A1 → A2 → A3 → A4 → A5 → A6 → S → Option ρ, (∀ (a1 : A1) (a2 : A2) (a3 : A3) (a4 : A4) (a5 : A5) (a6 : A6) (w : S), k a1 a2 a3 a4 a5 a6 w = some y → P a1 a2 a3 a4 a5 a6 w) → ∀ (a1 : A1) (a2 : A2) (a3 : A3) (a4 : A4) (a5 : A5) (a6 : A6) (w : S), body k a1 a2 a3 a4 a5 a6 w = some y → P a1 a2 a3 a4 a5 a6 w) : ∀ (n : Nat) (a1 : A1) (a2 : A2) (a3 : A3) (a4 : A4) (a5 : A5) (a6 : A6) (w : S), gL6 body n a1 a2 a3 a4 a5 a6 w = some y → P a1 a2 a3 a4 a5 a6 w := by
  intro n
  induction n with
  | zero => intro a1 a2 a3 a4 a5 a6 w h; cases h
  | succ n ih => intro a1 a2 a3 a4 a5 a6 w h; exact hs _ ih a1 a2 a3 a4 a5 a6 w h
def gL7 {A1 A2 A3 A4 A5 A6 A7 S ρ : Type} (body : (A1 → A2 → A3 → A4 → A5 → A6 → A7 → S → Option ρ) → A1 → A2 → A3 → A4 → A5 → A6 → A7 → S → Option ρ) : Nat → A1 → A2 → A3 → A4 → A5 → A6 → A7 → S → Option ρ
  | 0 => fun _ _ _ _ _ _ _ _ => none
  | k + 1 => body (gL7 body k)
theorem gL7_e {A1 A2 A3 A4 A5 A6 A7 S ρ : Type} {body : (A1 → A2 → A3 → A4 → A5 → A6 → A7 → S → Option ρ) → A1 → A2 → A3 → A4 → A5 → A6 → A7 → S → Option ρ} {y : ρ} (P : A1 → A2 → A3 → A4 → A5 → A6 → A7 → S → Prop) (hs : ∀ k : A1 → A2 → A3 → A4 → A5 → A6 → A7 → S → Option ρ, (∀ (a1 : A1) (a2 : A2) (a3 : A3) (a4 : A4) (a5 : A5) (a6 : A6) (a7 : A7) (w : S), k a1 a2 a3 a4 a5 a6 a7 w = some y → P a1 a2 a3 a4 a5 a6 a7 w) → ∀ (a1 : A1) (a2 : A2) (a3 : A3) (a4 : A4) (a5 : A5) (a6 : A6) (a7 : A7) (w : S), body k a1 a2 a3 a4 a5 a6 a7 w = some y → P a1 a2 a3 a4 a5 a6 a7 w) : ∀ (n : Nat) (a1 : A1) (a2 : A2) (a3 : A3) (a4 : A4) (a5 : A5) (a6 : A6) (a7 : A7) (w : S), gL7 body n a1 a2 a3 a4 a5 a6 a7 w = some y → P a1 a2 a3 a4 a5 a6 a7 w := by
  intro n
  induction n with
  | zero => intro a1 a2 a3 a4 a5 a6 a7 w h; cases h
  | succ n ih => intro a1 a2 a3 a4 a5 a6 a7 w h; exact hs _ ih a1 a2 a3 a4 a5 a6 a7 w h
def gL8 {A1 A2 A3 A4 A5 A6 A7 A8 S ρ : Type} (body : (A1 → A2 → A3 → A4 → A5 → A6 → A7 → A8 → S → Option ρ) → A1 → A2 → A3 → A4 → A5 → A6 → A7 → A8 → S → Option ρ) : Nat → A1 → A2 → A3 → A4 → A5 → A6 → A7 → A8 → S → Option ρ
  | 0 => fun _ _ _ _ _ _ _ _ _ => none
  | k + 1 => body (gL8 body k)
theorem gL8_e {A1 A2 A3 A4 A5 A6 A7 A8 S ρ : Type} {body : (A1 → A2 → A3 → A4 → A5 → A6 → A7 → A8 → S → Option ρ) → A1 → A2 → A3 → A4 → A5 → A6 → A7 → A8 → S → Option ρ} {y : ρ} (P : A1 → A2 → A3 → A4 → A5 → A6 → A7 → A8 → S → Prop) (hs : ∀ k : A1 → A2 → A3 → A4 → A5 → A6 → A7 → A8 → S → Option ρ, (∀ (a1 : A1) (a2 : A2) (a3 : A3) (a4 : A4) (a5 : A5) (a6 : A6) (a7 : A7) (a8 : A8) (w : S), k a1 a2 a3 a4 a5 a6 a7 a8 w = some y → P a1 a2 a3 a4 a5 a6 a7 a8 w) → ∀ (a1 : A1) (a2 : A2) (a3 : A3) (a4 : A4) (a5 : A5) (a6 : A6) (a7 : A7) (a8 : A8) (w : S), body k a1 a2 a3 a4 a5 a6 a7 a8 w = some y → P a1 a2 a3 a4 a5 a6 a7 a8 w) : ∀ (n : Nat) (a1 : A1) (a2 : A2) (a3 : A3) (a4 : A4) (a5 : A5) (a6 : A6) (a7 : A7) (a8 : A8) (w : S), gL8 body n a1 a2 a3 a4 a5 a6 a7 a8 w = some y → P a1 a2 a3 a4 a5 a6 a7 a8 w := by
  intro n
  induction n with
  | zero => intro a1 a2 a3 a4 a5 a6 a7 a8 w h; cases h
  | succ n ih => intro a1 a2 a3 a4 a5 a6 a7 a8 w h; exact hs _ ih a1 a2 a3 a4 a5 a6 a7 a8 w h
theorem gBd_x {α β : Type} {x : α} {k : α → β} {r : β} (h : gBd x k = r) : ∃ y, y = x ∧ k y = r := ⟨x, rfl, h⟩
section JK
variable {D : va_G} {dA : Nat → ClassId} {A : Nat → Prop} {K : Nat → Nat} {p : Program} {l : Launch} {e : Env} {R : Room} {s : State} {m : MethodId} {args : Array Value} {below : List Frame} {meth : Method} {c : Code} {Q : State → Prop} {nL : Nat} {cc : ByteArray} {own : String} {pc : Nat} {lv : List (Nat × gv)} {st : List gv} {w w1 : gw} {h : Nat}
theorem hsum_stand {T : State} {locs : List Loc} {cells slots : Nat} (X : Stand p l e R s m args below meth c T locs cells slots) : hsum s.heap ≤ hsum T.heap := by
  obtain ⟨a1, a2, a3, a4, a5, a6⟩ := X.same
  have a2 : s.heap.size ≤ T.heap.size := a2
  have a6 : ∀ a c, s.heap[a]? = some c → ∃ c', T.heap[a]? = some c' ∧ c' = { c with slots := c'.slots } ∧ c'.slots.size = c.slots.size ∧ ∀ i, (⟨a, i⟩ : Loc) ∉ locs → c'.slots[i]? = c.slots[i]? := a6
  have hpre : (T.heap.toList.take s.heap.size).map (fun c => c.slots.size) = s.heap.toList.map (fun c => c.slots.size) := by
    apply List.ext_getElem?
    intro i
    rw [List.getElem?_map, List.getElem?_map, List.getElem?_take, Array.getElem?_toList, Array.getElem?_toList]
    by_cases hi : i < s.heap.size
    · rw [if_pos hi]
      have h1 : s.heap[i]? = some s.heap[i] := Array.getElem?_eq_getElem hi
      obtain ⟨c', h2, -, h3, -⟩ := a6 i _ h1
      rw [h1, h2]
      simp [h3]
    · rw [if_neg hi, Array.getElem?_eq_none (by omega)]
  have hsplit : hsum T.heap = hsum s.heap + ((T.heap.toList.drop s.heap.size).map (fun c => c.slots.size)).sum := by
    have h1 := congrArg List.sum hpre
    unfold hsum
    rw [← h1, ← List.sum_append, ← List.map_append, List.take_append_drop]
  omega
theorem gNw_same {w : Cond} {u U : State} (h : w ∈ gNw) (hv : u.vm = U.vm) (hz : va_Nw w u) : va_Nw w U := by
  have h1 := List.all_eq_true.mp gNw_good w h
  cases w <;> first | exact va_Nw.same rfl hv hz | (simp [gNw_ok] at h1)
theorem gK.warm {U : State} (hK : gK D dA A K s) (hW : s.WarmedH U.vm) (hH : ∀ q : Nat, q < s.heap.size → ¬ A q → U.heap[q]? = s.heap[q]?) : gK D dA A K U := by
  obtain ⟨k1, k2, k3, k4, ⟨z1, z2, z3, z4, z5, z6⟩, o1, o2, o3, mi, e5⟩ := hK
  have hv := hW.alike
  exact ⟨va_K.moved hv k1, fun w hw => gNw_warm hw hW (k2 w hw), fun C hC => va_AO.moved hv (k3 C hC), fun q hq => va_Nc.moved hv (k4 q hq), ⟨(va_Z.moved hv z1).kept hH, (va_Z.moved hv z2).kept hH, (va_Z.moved hv z3).kept hH, (va_Z.moved hv z4).kept hH, (va_Z.moved hv z5).kept hH, (va_Z.moved hv z6).kept hH⟩, (va_O.moved hv o1).kept hH, (va_O.moved hv o2).kept hH, (va_O.moved hv o3).kept hH, va_Mi.moved hv mi, gE5.moved hv hH e5⟩
theorem gK.same {U U' : State} (hK : gK D dA A K U) (hv : U'.vm = U.vm) (hh : U'.heap = U.heap) : gK D dA A K U' := by
  obtain ⟨k1, k2, k3, k4, ⟨z1, z2, z3, z4, z5, z6⟩, o1, o2, o3, mi, e5⟩ := hK
  have ha : U.vm.Alike U'.vm := by rw [hv]; exact Vm.Alike.refl U.vm
  have hH : ∀ q : Nat, q < U.heap.size → ¬ A q → U'.heap[q]? = U.heap[q]? := fun q _ _ => by rw [hh]
  exact ⟨va_K.moved ha k1, fun w hw => gNw_same hw hv.symm (k2 w hw), fun C hC => va_AO.moved ha (k3 C hC), fun q hq => va_Nc.moved ha (k4 q hq), ⟨(va_Z.moved ha z1).kept hH, (va_Z.moved ha z2).kept hH, (va_Z.moved ha z3).kept hH, (va_Z.moved ha z4).kept hH, (va_Z.moved ha z5).kept hH, (va_Z.moved ha z6).kept hH⟩, (va_O.moved ha o1).kept hH, (va_O.moved ha o2).kept hH, (va_O.moved ha o3).kept hH, va_Mi.moved ha mi, gE5.moved ha hH e5⟩
theorem gPc_blind {As : List gv} : FrameBlind (gPc D dA A K As w) := by
  intro a U g mk q
  obtain ⟨q0, q1, q2⟩ := q
  exact ⟨q0, q1, gK.same q2 rfl rfl⟩
/-- behind any call -/
theorem j_run (C : gC D dA A K p R s m args meth c cc nL own h) {v : Option gv} {rest st0 : List gv} {a : Array Value} {mc ms : Nat} (hr : ∀ (H : Heap) (locs : List Loc) (ls : Array Slot), gOK D dA A K w H → va_S A s.heap H locs → hsum s.heap ≤ hsum H → ls.size = nL → va_Run p l e R s m args below meth c H locs (H.size - s.heap.size) (hsum H - hsum s.heap) mc ms (F0 m pc ls (st0.map gV)) (rest.map gV) (gQ D dA A K v w1 a) A) (kk : gJ D dA A K p l e R s m args below meth c Q nL (pc + 3) lv (v.toList ++ rest) w1) : gJ D dA A K p l e R s m args below meth c Q nL pc lv st0 w := by
  intro H locs ls h1 h2 h3 h4 cells slots
  refine gW_sharp h3 ?_
  intro T hT X
  obtain ⟨v', st₀, t, T', L, h0, X', hL, e1, e2, ⟨⟨hv, hok⟩, hz, hk⟩, stp⟩ := hr H locs ls h1 h2 h3 h4.1 T hT X
  have hv' : v' = v.map gV := by cases hv; rfl
  subst hv'
  rw [h0] at hz hk
  have hm : hsum s.heap ≤ hsum T'.heap := hsum_stand X'
  have hA := C.2.2.2.2.2.2.1
  have hS : va_S A s.heap T'.heap (locs ++ L) := ⟨Nat.le_trans h2.1 (by rw [e1]; exact hz), fun q g1 g2 => by rw [e1, hk q (Nat.lt_of_lt_of_le g1 h2.1) g2]; exact h2.2.1 q g1 g2, fun q hq => by
      rcases List.mem_append.mp hq with g | g
      · exact h2.2.2 q g
      · exact hL q g⟩
  have e9 : (v.toList ++ rest).map gV = (v.map gV).toList ++ rest.map gV := by cases v <;> rfl
  have hW := kk T'.heap (locs ++ L) ls (by rw [e1]; exact hok) hS hm h4 (H.size - s.heap.size + mc) (hsum H - hsum s.heap + ms)
  rw [e9] at hW
  obtain ⟨t2, a1, b1⟩ := hW T' rfl X'
  exact ⟨t2, stp t2 a1, b1⟩
theorem g_fits (C : gC D dA A K p R s m args meth c cc nL own h) {H : Heap} {locs : List Loc} (h1 : gOK D dA A K w H) (h2 : va_S A s.heap H locs) (h3 : hsum s.heap ≤ hsum H) : H.size - s.heap.size + (K 0 - w.2.1) ≤ R.cells ∧ hsum H - hsum s.heap + (K 1 - w.2.2.1) ≤ R.slots := by
  have k0 := C.2.2.2.2.2.2.2.1
  have k1 := C.2.2.2.2.2.2.2.2.1
  have hsz := h1.2.1
  have hsl := h1.2.2.1
  have g7 := h1.2.2.2.2.2.2.1
  have g8 := h1.2.2.2.2.2.2.2.1
  have hs := h2.1
  constructor <;> omega
theorem g_pre (C : gC D dA A K p R s m args meth c cc nL own h) {H : Heap} {locs : List Loc} {As : List gv} (h1 : gOK D dA A K w H) (h2 : va_S A s.heap H locs) : ∀ U : State, U.heap = H → s.WarmedH U.vm → gPc D dA A K As w (As.map gV).toArray U := fun U hU hW => ⟨rfl, by rw [hU]; exact h1, gK.warm C.2.2.2.2.2.1 hW (by rw [hU]; exact h2.2.1)⟩
/-- the receiver's class: by its number -/
def gOb (w : gw) (b ci : Nat) : Option Unit := match gCls w b with
  | some c => if c = ci then some () else none
  | none => none
theorem gOb_e {b ci : Nat} (hx : gOb w b ci = some ()) : gCls w b = some ci := by
  unfold gOb at hx
  split at hx
  · rename_i c0 e0
    split at hx
    · rename_i e1
      rw [e0, e1]
    · cases hx
  · cases hx
theorem g_recv (C : gC D dA A K p R s m args meth c cc nL own h) {H : Heap} {locs : List Loc} {b ci : Nat} {Cn : String} (hn : gNa ci = some Cn) (h1 : gOK D dA A K w H) (h2 : va_S A s.heap H locs) (hx : gCls w b = some ci) : ∃ cellB : Cell, H[b]? = some cellB ∧ cellB.vm.isStatics = false ∧ s.vm.findClass Cn = some cellB.cls := by
  obtain ⟨Cv, cellV, n1, n2, n3, n4⟩ := gCls_e C.2.2.2.2.2.1 h1 h2 hx
  cases n1.symm.trans hn
  exact ⟨cellV, n2, n3, n4⟩
theorem g_room (C : gC D dA A K p R s m args meth c cc nL own h) {maxL : Nat} (hh : 1 ≤ h) (hm : maxL ≤ 45) : (gRm K w (h - 1)).frames + 1 ≤ R.frames ∧ 8 + (maxL + 11) + (gRm K w (h - 1)).locals ≤ R.locals := by
  have kf := C.2.2.2.2.2.2.2.2.2.2.1
  have kl := C.2.2.2.2.2.2.2.2.2.2.2
  constructor
  · show h - 1 + 1 ≤ _; omega
  · show 8 + (maxL + 11) + 64 * (h - 1) ≤ _; omega
theorem g_stk {ls : Array Slot} {st0 rest : List gv} (hl : rest.length ≤ 8) : 2 * (F0 m pc ls (st0.map gV)).monitorRoom + ((rest.map gV).map fun v => v.category).sum ≤ 8 := by
  refine lv_room (st := rest.map gV) ?_
  rw [gV_sum]
  exact hl

theorem j_callS (C : gC D dA A K p R s m args meth c cc nL own h) {index maxL : Nat} {y : MethodName} {bytes : ByteArray} {ret : Option FieldType} {As rest : List gv} {v : Option gv} (hh : 1 ≤ h) (hM : gMet D dA A K l y (ws_ y bytes maxL ret) (h - 1) As v w w1) (q1 : Cond.methodLink own index y ∈ lw_all) (q2 : Cond.static y ∈ lw_all) (q3 : Cond.initialized y.cls ∈ lw_all) (q4 : Cond.code y bytes maxL ret ∈ lw_all) (hd : (y.cls ≠ "java/lang/invoke/MethodHandle" ∧ y.cls ≠ "java/lang/invoke/VarHandle" ∧ (parseMethodDescriptor y.desc).map (fun d => d.parameters.length) = some As.length)) (hmx : maxL ≤ 45) (hst : st = As.reverse ++ rest) (hl : rest.length ≤ 8) (d : decode cc pc = .ok (.invokestatic index, 3)) (kk : gJ D dA A K p l e R s m args below meth c Q nL (pc + 3) lv (v.toList ++ rest) w1) : gJ D dA A K p l e R s m args below meth c Q nL pc lv st w := by
  subst hst
  refine j_run C (fun H locs ls h1 h2 h3 hls => va_runS (As := As.map gV) ⟨C.1, C.2.1, C.2.2.1, C.2.2.2.1, C.2.2.2.2.1⟩ hM (va_cwS As.length C.2.2.2.2.1 (lw_S q1 q2 q3 q4) rfl rfl rfl hd (g_room C hh hmx)) ⟨gPc_blind, g_pre C h1 h2⟩ rfl (by rw [List.length_map]) hls ?_ (g_stk hl) d (g_fits C h1 h2 h3)) kk
  show _ = _
  rw [List.map_append, List.map_reverse]
theorem j_callI (C : gC D dA A K p R s m args meth c cc nL own h) {index maxL : Nat} {y : MethodName} {bytes : ByteArray} {As rest : List gv} {b : Nat} (hh : 1 ≤ h) (hM : gMet D dA A K l y (ws_ y bytes maxL none) (h - 1) (ga (some b) :: As) none w w1) (hy1 : y.name = "<init>") (q1 : Cond.methodLink own index y ∈ lw_all) (q2 : Cond.instanceMethod y ∈ lw_all) (q3 : Cond.initialized y.cls ∈ lw_all) (q4 : Cond.code y bytes maxL none ∈ lw_all) (hd : (y.cls ≠ "java/lang/invoke/MethodHandle" ∧ y.cls ≠ "java/lang/invoke/VarHandle" ∧ (parseMethodDescriptor y.desc).map (fun d => d.parameters.length) = some As.length)) (hmx : maxL ≤ 45) (hst : st = As.reverse ++ ga (some b) :: rest) (hl : rest.length ≤ 8) (d : decode cc pc = .ok (.invokespecial index, 3)) (kk : gJ D dA A K p l e R s m args below meth c Q nL (pc + 3) lv rest w1) : gJ D dA A K p l e R s m args below meth c Q nL pc lv st w := by
  subst hst
  refine j_run C (v := none) (fun H locs ls h1 h2 h3 hls => va_runI (As := As.map gV) ⟨C.1, C.2.1, C.2.2.1, C.2.2.2.1, C.2.2.2.2.1⟩ hM (cwI As.length C.2.2.2.2.1 (lw_meth q4) rfl rfl rfl (C.2.2.2.2.1 _ q3) (C.2.2.2.2.1 _ q1) (C.2.2.2.2.1 _ q2) hy1 hd (g_room C hh hmx)) ⟨gPc_blind, g_pre C h1 h2⟩ rfl (by rw [List.length_map]) hls ?_ (g_stk hl) d (g_fits C h1 h2 h3)) kk
  show _ = _
  rw [List.map_append, List.map_reverse]
  rfl
theorem j_callV (C : gC D dA A K p R s m args meth c cc nL own h) {index maxL : Nat} {y : MethodName} {bytes : ByteArray} {ret : Option FieldType} {As rest : List gv} {v : Option gv} {b ci : Nat} (hh : 1 ≤ h) (hM : gMet D dA A K l y (ws_ y bytes maxL ret) (h - 1) (ga (some b) :: As) v w w1) (hx : gCls w b = some ci) (hn : gNa ci = some y.cls) (q1 : Cond.methodLink own index y ∈ lw_all) (q2 : Cond.instanceMethod y ∈ lw_all) (q5 : Cond.selects y.cls y y ∈ lw_all) (q3 : Cond.initialized y.cls ∈ lw_all) (q4 : Cond.code y bytes maxL ret ∈ lw_all) (hd : (y.cls = y.cls ∧ y.cls ≠ "java/lang/invoke/MethodHandle" ∧ y.cls ≠ "java/lang/invoke/VarHandle" ∧ (parseMethodDescriptor y.desc).map (fun d => d.parameters.length) = some As.length)) (hmx : maxL ≤ 45) (hst : st = As.reverse ++ ga (some b) :: rest) (hl : rest.length ≤ 8) (d : decode cc pc = .ok (.invokevirtual index, 3)) (kk : gJ D dA A K p l e R s m args below meth c Q nL (pc + 3) lv (v.toList ++ rest) w1) : gJ D dA A K p l e R s m args below meth c Q nL pc lv st w := by
  subst hst
  refine j_run C (fun H locs ls h1 h2 h3 hls => va_runV (As := As.map gV) ⟨C.1, C.2.1, C.2.2.1, C.2.2.2.1, C.2.2.2.2.1⟩ hM (cwV As.length C.2.2.2.2.1 (lw_V q1 q2 q5 q3 q4) rfl rfl rfl hd (g_room C hh hmx)) ⟨gPc_blind, g_recv C hn h1 h2 hx, g_pre C h1 h2⟩ rfl (by rw [List.length_map]) hls ?_ (g_stk hl) d (g_fits C h1 h2 h3)) kk
  show _ = _
  rw [List.map_append, List.map_reverse]
  rfl
theorem g_wsU {own owner Cr : String} {idx : Nat} {x y : MethodName} {b : ByteArray} {L : Nat} {r : Option FieldType} (h1 : Cond.methodLink own idx x ∈ lw_all) (h2 : Cond.sameMethod x.cls owner x.name x.desc ∈ lw_all) (h3 : Cond.selects Cr x y ∈ lw_all) (h4 : Cond.instanceMethod y ∈ lw_all) (h5 : Cond.initialized y.cls ∈ lw_all) (h6 : Cond.code y b L r ∈ lw_all) : GoodIn lw_all (va_wsU own idx Cr owner x y (ws_ y b L r)) := by
  refine lw_app ?_ (lw_meth h6)
  intro w hw
  simp only [List.mem_cons, List.not_mem_nil, or_false] at hw
  rcases hw with e | e | e | e | e
  · rw [e]; exact h1
  · rw [e]; exact h2
  · rw [e]; exact h3
  · rw [e]; exact h4
  · rw [e]; exact h5
theorem j_callA (C : gC D dA A K p R s m args meth c cc nL own h) {index maxL : Nat} {y : MethodName} {bytes : ByteArray} {ret : Option FieldType} {As rest : List gv} {v : Option gv} {x : MethodName} {b ci : Nat} {Cr owner : String} (hh : 1 ≤ h) (hM : gMet D dA A K l y (ws_ y bytes maxL ret) (h - 1) (ga (some b) :: As) v w w1) (hx : gCls w b = some ci) (hn : gNa ci = some Cr) (q1 : Cond.methodLink own index x ∈ lw_all) (q6 : Cond.sameMethod x.cls owner x.name x.desc ∈ lw_all) (q5 : Cond.selects Cr x y ∈ lw_all) (q2 : Cond.instanceMethod y ∈ lw_all) (q3 : Cond.initialized y.cls ∈ lw_all) (q4 : Cond.code y bytes maxL ret ∈ lw_all) (q7 : Cond.declares ⟨owner, x.name, x.desc⟩ ∈ gNw) (hd : (owner ≠ "java/lang/invoke/MethodHandle" ∧ owner ≠ "java/lang/invoke/VarHandle" ∧ (parseMethodDescriptor x.desc).map (fun d => d.parameters.length) = some As.length)) (hmx : maxL ≤ 45) (hst : st = As.reverse ++ ga (some b) :: rest) (hl : rest.length ≤ 8) (d : decode cc pc = .ok (.invokevirtual index, 3)) (kk : gJ D dA A K p l e R s m args below meth c Q nL (pc + 3) lv (v.toList ++ rest) w1) : gJ D dA A K p l e R s m args below meth c Q nL pc lv st w := by
  subst hst
  refine j_run C (fun H locs ls h1 h2 h3 hls => va_runU (As := As.map gV) ⟨C.1, C.2.1, C.2.2.1, C.2.2.2.1, C.2.2.2.2.1⟩ hM (va_cwA As.length C.2.2.2.2.1 (g_wsU q1 q6 q5 q2 q3 q4) rfl rfl rfl (C.2.2.2.2.2.1.2.1 _ q7) hd (g_room C hh hmx)) ⟨gPc_blind, g_recv C hn h1 h2 hx, g_pre C h1 h2⟩ rfl (by rw [List.length_map]) hls ?_ (g_stk hl) d (g_fits C h1 h2 h3)) kk
  show _ = _
  rw [List.map_append, List.map_reverse]
  rfl
theorem g_nestC (C : gC D dA A K p R s m args meth c cc nL own h) {y : MethodName} {index : Nat} {host : String} (q : Cond.methodLinkNest own index y host ∈ gNw) : va_Nw (.methodLinkNest own index y host) s := C.2.2.2.2.2.1.2.1 _ q
theorem j_callSN (C : gC D dA A K p R s m args meth c cc nL own h) {index maxL : Nat} {y : MethodName} {bytes : ByteArray} {ret : Option FieldType} {As rest : List gv} {v : Option gv} {host : String} (hh : 1 ≤ h) (hM : gMet D dA A K l y (ws_ y bytes maxL ret) (h - 1) As v w w1) (q1 : Cond.methodLinkNest own index y host ∈ gNw) (q2 : Cond.static y ∈ lw_all) (q3 : Cond.initialized y.cls ∈ lw_all) (q4 : Cond.code y bytes maxL ret ∈ lw_all) (hd : (y.cls ≠ "java/lang/invoke/MethodHandle" ∧ y.cls ≠ "java/lang/invoke/VarHandle" ∧ (parseMethodDescriptor y.desc).map (fun d => d.parameters.length) = some As.length)) (hmx : maxL ≤ 45) (hst : st = As.reverse ++ rest) (hl : rest.length ≤ 8) (d : decode cc pc = .ok (.invokestatic index, 3)) (kk : gJ D dA A K p l e R s m args below meth c Q nL (pc + 3) lv (v.toList ++ rest) w1) : gJ D dA A K p l e R s m args below meth c Q nL pc lv st w := by
  subst hst
  refine j_run C (fun H locs ls h1 h2 h3 hls => va_runSN (As := As.map gV) ⟨C.1, C.2.1, C.2.2.1, C.2.2.2.1, C.2.2.2.2.1⟩ hM ⟨va_cnB As.length C.2.2.2.2.1 (lw_meth q4) rfl rfl rfl (g_nestC C q1) (C.2.2.2.2.1 _ q3) hd (g_room C hh hmx), C.2.2.2.2.1 _ q2, trivial⟩ ⟨gPc_blind, g_pre C h1 h2⟩ rfl (by rw [List.length_map]) hls ?_ (g_stk hl) d (g_fits C h1 h2 h3)) kk
  show _ = _
  rw [List.map_append, List.map_reverse]
theorem j_callVN (C : gC D dA A K p R s m args meth c cc nL own h) {index maxL : Nat} {y : MethodName} {bytes : ByteArray} {ret : Option FieldType} {As rest : List gv} {v : Option gv} {host : String} {b ci : Nat} (hh : 1 ≤ h) (hM : gMet D dA A K l y (ws_ y bytes maxL ret) (h - 1) (ga (some b) :: As) v w w1) (hx : gCls w b = some ci) (hn : gNa ci = some y.cls) (q1 : Cond.methodLinkNest own index y host ∈ gNw) (q2 : Cond.instanceMethod y ∈ lw_all) (q5 : Cond.selects y.cls y y ∈ lw_all) (q3 : Cond.initialized y.cls ∈ lw_all) (q4 : Cond.code y bytes maxL ret ∈ lw_all) (hd : (y.cls ≠ "java/lang/invoke/MethodHandle" ∧ y.cls ≠ "java/lang/invoke/VarHandle" ∧ (parseMethodDescriptor y.desc).map (fun d => d.parameters.length) = some As.length)) (hmx : maxL ≤ 45) (hst : st = As.reverse ++ ga (some b) :: rest) (hl : rest.length ≤ 8) (d : decode cc pc = .ok (.invokevirtual index, 3)) (kk : gJ D dA A K p l e R s m args below meth c Q nL (pc + 3) lv (v.toList ++ rest) w1) : gJ D dA A K p l e R s m args below meth c Q nL pc lv st w := by
  subst hst
  refine j_run C (fun H locs ls h1 h2 h3 hls => va_runVN (As := As.map gV) ⟨C.1, C.2.1, C.2.2.1, C.2.2.2.1, C.2.2.2.2.1⟩ hM ⟨va_cnB As.length C.2.2.2.2.1 (lw_meth q4) rfl rfl rfl (g_nestC C q1) (C.2.2.2.2.1 _ q3) hd (g_room C hh hmx), C.2.2.2.2.1 _ q2, C.2.2.2.2.1 _ q5⟩ ⟨gPc_blind, g_recv C hn h1 h2 hx, g_pre C h1 h2⟩ rfl (by rw [List.length_map]) hls ?_ (g_stk hl) d (g_fits C h1 h2 h3)) kk
  show _ = _
  rw [List.map_append, List.map_reverse]
  rfl
theorem j_callIN (C : gC D dA A K p R s m args meth c cc nL own h) {index maxL : Nat} {y : MethodName} {bytes : ByteArray} {As rest : List gv} {host : String} {b : Nat} (hh : 1 ≤ h) (hM : gMet D dA A K l y (ws_ y bytes maxL none) (h - 1) (ga (some b) :: As) none w w1) (hy1 : y.name = "<init>") (q1 : Cond.methodLinkNest own index y host ∈ gNw) (q2 : Cond.instanceMethod y ∈ lw_all) (q3 : Cond.initialized y.cls ∈ lw_all) (q4 : Cond.code y bytes maxL none ∈ lw_all) (hd : (y.cls ≠ "java/lang/invoke/MethodHandle" ∧ y.cls ≠ "java/lang/invoke/VarHandle" ∧ (parseMethodDescriptor y.desc).map (fun d => d.parameters.length) = some As.length)) (hmx : maxL ≤ 45) (hst : st = As.reverse ++ ga (some b) :: rest) (hl : rest.length ≤ 8) (d : decode cc pc = .ok (.invokespecial index, 3)) (kk : gJ D dA A K p l e R s m args below meth c Q nL (pc + 3) lv rest w1) : gJ D dA A K p l e R s m args below meth c Q nL pc lv st w := by
  subst hst
  refine j_run C (v := none) (fun H locs ls h1 h2 h3 hls => va_runIN (As := As.map gV) ⟨C.1, C.2.1, C.2.2.1, C.2.2.2.1, C.2.2.2.2.1⟩ hM ⟨va_cnB As.length C.2.2.2.2.1 (lw_meth q4) rfl rfl rfl (g_nestC C q1) (C.2.2.2.2.1 _ q3) hd (g_room C hh hmx), hy1, C.2.2.2.2.1 _ q2⟩ ⟨gPc_blind, g_pre C h1 h2⟩ rfl (by rw [List.length_map]) hls ?_ (g_stk hl) d (g_fits C h1 h2 h3)) kk
  show _ = _
  rw [List.map_append, List.map_reverse]
  rfl
theorem j_objInit (C : gC D dA A K p R s m args meth c cc nL own h) {index b : Nat} (hh : 1 ≤ h) (q1 : Cond.methodLink own index Lib.objectInit ∈ lw_all) (q2 : Cond.instanceMethod Lib.objectInit ∈ lw_all) (q3 : Cond.code Lib.objectInit ⟨#[0xb1]⟩ 1 none ∈ lw_all) (hl : st.length ≤ 8) (d : decode cc pc = .ok (.invokespecial index, 3)) (kk : gJ D dA A K p l e R s m args below meth c Q nL (pc + 3) lv st w) : gJ D dA A K p l e R s m args below meth c Q nL pc lv (ga (some b) :: st) w := by
  intro H locs ls h1 h2 h3 h4 cells slots
  have kf := C.2.2.2.2.2.2.2.2.2.2.1
  have kl := C.2.2.2.2.2.2.2.2.2.2.2
  have hs := g_stk (m := m) (pc := pc) (ls := ls) (st0 := st) (rest := st) hl
  refine W.objInit C.1 C.2.1 C.2.2.2.1 (C.2.2.2.2.1 _ q1) (C.2.2.2.2.1 _ q2) (C.2.2.2.2.1 _ q3) rfl (by rw [C.2.2.1]; exact h4.1) rfl d (by omega) ?_ (kk H locs ls h1 h2 h3 h4 cells slots)
  have h9 : 2 * (F0 m pc ls (gV (ga (some b)) :: st.map gV)).monitorRoom + ((st.map gV).map fun v => v.category).sum ≤ 8 := hs
  exact Nat.le_trans (Nat.add_le_add_right h9 12) (by omega)
/-- what a return asks -/
def gEnd (D : va_G) (dA : Nat → ClassId) (A : Nat → Prop) (K : Nat → Nat) (below : List Frame) (args : Array Value) (s : State) (w0 : gw) (v : Option gv) (w1 : gw) : State → Prop := MQ below (gQ D dA A K v w1) args s (K 0 - w0.2.1) (K 1 - w0.2.2.1) A
theorem g_end {H : Heap} {locs : List Loc} {w0 : gw} (hw : s.heap.size = w0.2.1 ∧ hsum s.heap = w0.2.2.1) (h1 : gOK D dA A K w1 H) : H.size - s.heap.size ≤ K 0 - w0.2.1 ∧ hsum H - hsum s.heap ≤ K 1 - w0.2.2.1 := by
  have g7 := h1.2.2.2.2.2.2.1
  have g8 := h1.2.2.2.2.2.2.2.1
  have hsz := h1.2.1
  have hsl := h1.2.2.1
  constructor <;> omega
theorem j_iret (C : gC D dA A K p R s m args meth c cc nL own h) {w0 : gw} {x : Int32} (hr : meth.sig.returnType = some .int) (hw : s.heap.size = w0.2.1 ∧ hsum s.heap = w0.2.2.1) (d : decode cc pc = .ok (.ireturn, 1)) : gJ D dA A K p l e R s m args below meth c (gEnd D dA A K below args s w0 (some (gi x)) w) nL pc lv [gi x] w := by
  intro H locs ls h1 h2 h3 h4 cells slots
  obtain ⟨b1, b2⟩ := g_end (w0 := w0) (locs := locs) hw h1
  refine gW_sharp h3 (W.widen b1 b2 ?_)
  exact W.iret C.1 C.2.1 hr  (fun t ht hW => ⟨⟨rfl, by rw [ht]; exact h1⟩, h2.F ht⟩) h2.2.2 d C.2.2.2.2.2.2.2.2.2.1
theorem j_zret (C : gC D dA A K p R s m args meth c cc nL own h) {w0 : gw} {x : Int32} (hr : meth.sig.returnType = some .boolean) (hz : narrow .boolean (.int x) = .int x) (hw : s.heap.size = w0.2.1 ∧ hsum s.heap = w0.2.2.1) (d : decode cc pc = .ok (.ireturn, 1)) : gJ D dA A K p l e R s m args below meth c (gEnd D dA A K below args s w0 (some (gi x)) w) nL pc lv [gi x] w := by
  intro H locs ls h1 h2 h3 h4 cells slots
  obtain ⟨b1, b2⟩ := g_end (w0 := w0) (locs := locs) hw h1
  refine gW_sharp h3 (W.widen b1 b2 ?_)
  exact W.zret C.1 C.2.1 hr hz (fun t ht hW => ⟨⟨rfl, by rw [ht]; exact h1⟩, h2.F ht⟩) h2.2.2 d C.2.2.2.2.2.2.2.2.2.1
theorem j_vret (C : gC D dA A K p R s m args meth c cc nL own h) {w0 : gw} (hr : meth.sig.returnType = none) (hw : s.heap.size = w0.2.1 ∧ hsum s.heap = w0.2.2.1) (d : decode cc pc = .ok (.return_, 1)) : gJ D dA A K p l e R s m args below meth c (gEnd D dA A K below args s w0 none w) nL pc lv [] w := by
  intro H locs ls h1 h2 h3 h4 cells slots
  obtain ⟨b1, b2⟩ := g_end (w0 := w0) (locs := locs) hw h1
  refine gW_sharp h3 (W.widen b1 b2 ?_)
  exact W.vret C.1 C.2.1 hr (fun t ht hW => ⟨⟨rfl, by rw [ht]; exact h1⟩, h2.F ht⟩) h2.2.2 d C.2.2.2.2.2.2.2.2.2.1
theorem j_aret (C : gC D dA A K p R s m args meth c cc nL own h) {w0 : gw} {r : Option Nat} {rt : FieldType} (hr : meth.sig.returnType = some rt) (hrt : (∃ n, rt = .object n) ∨ ∃ t, rt = .array t) (hw : s.heap.size = w0.2.1 ∧ hsum s.heap = w0.2.2.1) (d : decode cc pc = .ok (.areturn, 1)) : gJ D dA A K p l e R s m args below meth c (gEnd D dA A K below args s w0 (some (ga r)) w) nL pc lv [ga r] w := by
  intro H locs ls h1 h2 h3 h4 cells slots
  obtain ⟨b1, b2⟩ := g_end (w0 := w0) (locs := locs) hw h1
  refine gW_sharp h3 (W.widen b1 b2 ?_)
  exact W.aret (v := va_rf r) C.1 C.2.1 hr hrt (va_rf_or r) (fun t ht hW => ⟨⟨rfl, by rw [ht]; exact h1⟩, h2.F ht⟩) h2.2.2 d C.2.2.2.2.2.2.2.2.2.1
theorem g_args (As : List gv) : ∀ i : Nat, lv_args i (As.map gV) = (As.zipIdx i).map (fun q => (q.2, gV q.1)) := by
  induction As with
  | nil => intro i; rfl
  | cons a t ih =>
    intro i
    rw [List.map_cons, List.zipIdx_cons, List.map_cons]
    show (i, gV a) :: lv_args (if (gV a).category = 2 then i + 2 else i + 1) (t.map gV) = _
    rw [gV_cat, if_neg (by decide), ih]
theorem g_slots (As : List gv) : (lg_sl (As.map gV)).length = As.length := by
  induction As with
  | nil => rfl
  | cons a t ih =>
    have h1 := gV_cat a
    rw [List.map_cons]
    unfold lg_sl at ih ⊢
    rw [List.flatMap_cons, List.length_append, ih, List.length_cons]
    cases hv : gV a <;> rw [hv] at h1 <;> first | (cases h1; done) | (simp [h1]; omega) | omega
/-- the entry -/
theorem j_start {y : MethodName} {As : List gv} {v : Option gv} {maxL : Nat} {ret : Option FieldType} (hy : plainFor y = true) (ho : y.cls = own) (hn : As.length ≤ maxL)
    (body : ∀ (p : Program) (e : Env) (R : Room) (s : State) (m : MethodId) (args : Array Value) (below : List Frame) (meth : Method) (c : Code), gC D dA A K p R s m args meth c cc maxL own h → meth.sig.returnType = ret → meth.name = y.name → s.heap.size = w.2.1 ∧ hsum s.heap = w.2.2.1 → gJ D dA A K p l e R s m args below meth c (gEnd D dA A K below args s w v w1) maxL 0 (As.zipIdx.map (fun q => (q.2, q.1))) [] w) : gMet D dA A K l y (ws_ y cc maxL ret) h As v w w1 := by
  subst ho
  refine va_MetF (cc := cc) (maxL := maxL) (ret := ret) hy rfl ?_
  intro p e s m args below meth c s₁ B hml hv
  obtain ⟨rfl, hok, hK⟩ := hv
  have hts := atoms_spec (ws := ws_ y cc maxL ret) B.pre
  have hts : ∀ w ∈ lw_all, w.before _ s = true := fun w h => hts w (List.mem_cons_of_mem _ h)
  have hown : s.vm.findClass y.cls = some m.cls := findClass_of_methodNamed B.named
  have hin : meth.name = y.name := (name_of_methodNamed B.named B.method).1
  have hz : s.heap.size = w.2.1 ∧ hsum s.heap = w.2.2.1 := ⟨hok.2.1, hok.2.2.1⟩
  have g7 := hok.2.2.2.2.2.2.1
  have g8 := hok.2.2.2.2.2.2.2.1
  have C : gC D dA A K p (headSpec (ws_ y cc maxL ret) (gRm K w h)).room s m (As.map gV).toArray meth c cc maxL y.cls h := by
    refine ⟨B.exec, B.bytes, hml, hown, hts, hK, fun q hq => hok.2.2.2.2.1 q (by rw [← hz.1]; exact hq), ?_, ?_, B.notSynchronized, Nat.le_refl h, Nat.le_refl (64 * h)⟩
    · show K 0 ≤ s.heap.size + (K 0 - w.2.1); omega
    · show K 1 ≤ hsum s.heap + (K 1 - w.2.2.1); omega
  have hl := lv_entry (As.map gV) (n := maxL) (by rw [g_slots]; exact hn)
  rw [lg_entry_eq]
  generalize (lg_sl (As.map gV) ++ List.replicate (maxL - (lg_sl (As.map gV)).length) Slot.unset).toArray = ls at hl ⊢
  rw [g_args] at hl
  have hl2 : lv_has ls maxL ((As.zipIdx.map (fun q => (q.2, q.1))).map (fun q => (q.1, gV q.2))) := by
    rw [List.map_map]
    exact hl
  exact body p e _ s m _ below meth c C B.returns hin hz s.heap [] ls hok va_S.rf (Nat.le_refl _) hl2 0 0
theorem g_wsO {own owner Cr : String} {idx : Nat} {x y : MethodName} {b : ByteArray} {L : Nat} {r : Option FieldType} (h1 : Cond.methodLink own idx x ∈ lw_all) (h2 : Cond.sameMethod x.cls owner x.name x.desc ∈ lw_all) (h7 : Cond.instanceMethod ⟨owner, x.name, x.desc⟩ ∈ lw_all) (h3 : Cond.selects Cr x y ∈ lw_all) (h4 : Cond.instanceMethod y ∈ lw_all) (h5 : Cond.initialized y.cls ∈ lw_all) (h6 : Cond.code y b L r ∈ lw_all) : GoodIn lw_all (va_wsO own idx Cr owner x y (ws_ y b L r)) := by
  refine lw_app ?_ (lw_meth h6)
  intro w hw
  simp only [List.mem_cons, List.not_mem_nil, or_false] at hw
  rcases hw with e | e | e | e | e | e
  · rw [e]; exact h1
  · rw [e]; exact h2
  · rw [e]; exact h7
  · rw [e]; exact h3
  · rw [e]; exact h4
  · rw [e]; exact h5
theorem j_callO (C : gC D dA A K p R s m args meth c cc nL own h) {index maxL : Nat} {y : MethodName} {bytes : ByteArray} {ret : Option FieldType} {As rest : List gv} {v : Option gv} {x : MethodName} {b ci : Nat} {Cr owner : String} {b0 : ByteArray} {m0 : Nat} {r0 : Option FieldType} (hh : 1 ≤ h) (hM : gMet D dA A K l y (ws_ y bytes maxL ret) (h - 1) (ga (some b) :: As) v w w1) (hx : gCls w b = some ci) (hn : gNa ci = some Cr) (q1 : Cond.methodLink own index x ∈ lw_all) (q6 : Cond.sameMethod x.cls owner x.name x.desc ∈ lw_all) (q5 : Cond.selects Cr x y ∈ lw_all) (q2 : Cond.instanceMethod y ∈ lw_all) (q3 : Cond.initialized y.cls ∈ lw_all) (q4 : Cond.code y bytes maxL ret ∈ lw_all) (q7 : Cond.instanceMethod ⟨owner, x.name, x.desc⟩ ∈ lw_all) (q8 : Cond.code ⟨owner, x.name, x.desc⟩ b0 m0 r0 ∈ lw_all) (hd : (owner ≠ "java/lang/invoke/MethodHandle" ∧ owner ≠ "java/lang/invoke/VarHandle" ∧ (parseMethodDescriptor x.desc).map (fun d => d.parameters.length) = some As.length)) (hmx : maxL ≤ 45) (hst : st = As.reverse ++ ga (some b) :: rest) (hl : rest.length ≤ 8) (d : decode cc pc = .ok (.invokevirtual index, 3)) (kk : gJ D dA A K p l e R s m args below meth c Q nL (pc + 3) lv (v.toList ++ rest) w1) : gJ D dA A K p l e R s m args below meth c Q nL pc lv st w := by
  subst hst
  refine j_run C (fun H locs ls h1 h2 h3 hls => va_runU (As := As.map gV) ⟨C.1, C.2.1, C.2.2.1, C.2.2.2.1, C.2.2.2.2.1⟩ hM (va_cwO As.length C.2.2.2.2.1 (g_wsO q1 q6 q7 q5 q2 q3 q4) rfl rfl rfl q8 hd (g_room C hh hmx)) ⟨gPc_blind, g_recv C hn h1 h2 hx, g_pre C h1 h2⟩ rfl (by rw [List.length_map]) hls ?_ (g_stk hl) d (g_fits C h1 h2 h3)) kk
  show _ = _
  rw [List.map_append, List.map_reverse]
  rfl
theorem gCpI_e {t a0 a1 : Nat} {sp dp n : Int32} (hp : gCpI w t a0 sp a1 dp n = some w1) : ∃ n0 n1 f g, w.1 a0 = some (.inr (t, n0, .inl f)) ∧ w.1 a1 = some (.inr (t, n1, .inl g)) ∧ (¬ sp < 0 ∧ ¬ dp < 0 ∧ ¬ n < 0 ∧ sp.toNatClampNeg + n.toNatClampNeg ≤ n0 ∧ dp.toNatClampNeg + n.toNatClampNeg ≤ n1 ∧ 0 < n1) ∧ w1 = (va_up w.1 a1 (some (.inr (t, n1, .inl (va_cpy f g sp.toNatClampNeg dp.toNatClampNeg n.toNatClampNeg)))), w.2) := by
  unfold gCpI at hp
  obtain ⟨⟨n0, f⟩, h1, hp⟩ := Option.bind_eq_some_iff.mp hp
  obtain ⟨⟨n1, g⟩, h2, hp⟩ := Option.bind_eq_some_iff.mp hp
  split at hp
  · rename_i hc
    cases hp
    exact ⟨n0, n1, f, g, gIA_e h1, gIA_e h2, hc, rfl⟩
  · cases hp
theorem gCpR_e {t a0 a1 : Nat} {sp dp n : Int32} (hp : gCpR w t a0 sp a1 dp n = some w1) : ∃ n0 n1 f g, w.1 a0 = some (.inr (t, n0, .inr f)) ∧ w.1 a1 = some (.inr (t, n1, .inr g)) ∧ (¬ sp < 0 ∧ ¬ dp < 0 ∧ ¬ n < 0 ∧ sp.toNatClampNeg + n.toNatClampNeg ≤ n0 ∧ dp.toNatClampNeg + n.toNatClampNeg ≤ n1 ∧ 0 < n1 ∧ gCpOk w t f sp.toNatClampNeg n.toNatClampNeg = true) ∧ w1 = (va_up w.1 a1 (some (.inr (t, n1, .inr (va_cpy f g sp.toNatClampNeg dp.toNatClampNeg n.toNatClampNeg)))), w.2) := by
  unfold gCpR at hp
  obtain ⟨⟨n0, f⟩, h1, hp⟩ := Option.bind_eq_some_iff.mp hp
  obtain ⟨⟨n1, g⟩, h2, hp⟩ := Option.bind_eq_some_iff.mp hp
  split at hp
  · rename_i hc
    cases hp
    exact ⟨n0, n1, f, g, gRA_e h1, gRA_e h2, hc, rfl⟩
  · cases hp
theorem g_nn (z : Int32) (hz : ¬ z < 0) : z.toInt = (z.toNatClampNeg : Int) := by
  have hz0 : (0 : Int) ≤ z.toInt := by
    have := Int32.not_lt.mp hz
    simpa using Int32.le_iff_toInt_le.mp this
  show z.toInt = ((z.toInt.toNat : Nat) : Int)
  omega
theorem j_cpI (C : gC D dA A K p R s m args meth c cc nL own h) {index a0 a1 : Nat} {sp dp n : Int32} (hh : 1 ≤ h) (ql : Cond.methodLink own index arraycopyName ∈ lw_all) (qn : Cond.native arraycopyName ∈ lw_all) (qs : Cond.static arraycopyName ∈ lw_all) (qi : Cond.initialized "java/lang/System" ∈ lw_all) (hp : gCpI w 0 a0 sp a1 dp n = some w1) (hr : st.length ≤ 8) (d : decode cc pc = .ok (.invokestatic index, 3)) (kk : gJ D dA A K p l e R s m args below meth c Q nL (pc + 3) lv st w1) : gJ D dA A K p l e R s m args below meth c Q nL pc lv (gi n :: gi dp :: ga (some a1) :: gi sp :: ga (some a0) :: st) w := by
  intro H locs ls h1 h2 h3 h4 cells slots
  obtain ⟨n0, n1, f, g, ha0, ha1, ⟨b1, b2, b3, b4, b5, b6⟩, rfl⟩ := gCpI_e hp
  have kf := C.2.2.2.2.2.2.2.2.2.2.1
  have kl := C.2.2.2.2.2.2.2.2.2.2.2
  have hts := C.2.2.2.2.1
  have hK := C.2.2.2.2.2.1.1
  have hw9 : nativeFrameWords "java/lang/System" "arraycopy" 5 + 11 + 8 ≤ 64 := by decide +kernel
  have hloc : ((st.map gV).map fun v => v.category).sum + (nativeFrameWords "java/lang/System" "arraycopy" 5 + 11) ≤ R.locals := by
    rw [gV_sum]
    omega
  intro T hT X
  have hc0 : H[a0]? = some (vp_cell (dA 0) (n0, .inl f)) := h1.1 a0 _ ha0
  have hc1 : H[a1]? = some (vp_cell (dA 0) (n1, .inl g)) := h1.1 a1 _ ha1
  obtain ⟨-, k0, hk0, cm0, hkk0⟩ := (hK.2 0 _ rfl).1 n0 (fun j => .int (f j))
  obtain ⟨-, k1, hk1, cm1, hkk1⟩ := (hK.2 0 _ rfl).1 n1 (fun j => .int (g j))
  obtain ⟨vm', X', stp⟩ := X.arraycopy C.1 C.2.2.2.1 (hts _ ql) (hts _ qn) (hts _ qs) (hts _ qi) (src := a0) (dst := a1) (cs := vp_cell (dA 0) (n0, .inl f)) (cd := vp_cell (dA 0) (n1, .inl g)) (srcPos := sp) (destPos := dp) (n := n) (by rw [hT]; exact hc0) (by rw [hT]; exact hc1)
    (fun _ h => by cases h) (fun _ h => by cases h) (fun h => by cases h) (fun h => by cases h) hk0 hk1 hkk0 hkk1 (by simp [refKind]) b1 b2 b3
    (by rw [g_nn sp b1, g_nn n b3]; show ¬ _ > ((arrV (dA 0) n0 (fun j => .int (f j))).slots.size : Int); rw [arrV_size]; omega)
    (by rw [g_nn dp b2, g_nn n b3]; show ¬ _ > ((arrV (dA 0) n1 (fun j => .int (g j))).slots.size : Int); rw [arrV_size]; omega)
    (fun vm₁ _ i hi => by
      have e : (vp_cell (dA 0) (n0, .inl f)).slots.getD (sp.toNatClampNeg + i) .null = .int (f (sp.toNatClampNeg + i)) := by
        show (arrV (dA 0) n0 (fun j => .int (f j))).slots.getD _ _ = _
        rw [Array.getD_eq_getD_getElem?, arrV_read _ _ (by omega)]
        rfl
      refine ⟨?_, ?_⟩
      · rw [e]; rfl
      · rw [e]; exact trivial)
    (g := F0 m pc ls (.int n :: .int dp :: .ref a1 :: .int sp :: .ref a0 :: st.map gV)) rfl (by rw [C.2.2.1]; exact h4.1) (rest := st.map gV) rfl (by rw [C.2.1]; exact d) (by omega) (by show 2 * 0 + _ + _ ≤ _; omega)
  have e1 : copied (vp_cell (dA 0) (n0, .inl f)) (vp_cell (dA 0) (n1, .inl g)) sp dp n = vp_cell (dA 0) (n1, .inl (va_cpy f g sp.toNatClampNeg dp.toNatClampNeg n.toNatClampNeg)) := va_copied (fun z => .int z) (dA 0) (dA 0) f g b4
  rw [e1] at X' stp
  have hl : a1 < H.size := (Array.getElem?_eq_some_iff.mp hc1).1
  generalize hc2 : vp_cell (dA 0) (n1, .inl (va_cpy f g sp.toNatClampNeg dp.toNatClampNeg n.toNatClampNeg)) = c2 at X' stp
  have hheap : ((T.setVm vm').setCell a1 c2).heap = H.setIfInBounds a1 c2 := by rw [← hT]; rfl
  have oq : ∀ q : Nat, q ≠ a1 → (H.setIfInBounds a1 c2)[q]? = H[q]? := fun q hq => by simp [Array.getElem?_setIfInBounds, Ne.symm hq]
  have e9 : (H.setIfInBounds a1 c2)[a1]? = some c2 := by simp [Array.getElem?_setIfInBounds, hl]
  have hz : c2.slots.size = (vp_cell (dA 0) (n1, .inl g)).slots.size := by rw [← hc2]; exact (arrV_size _ _ _).trans (arrV_size _ _ _).symm
  have hzz : (H.setIfInBounds a1 c2).size = H.size := by simp
  have hwr : gWr (.inr (0, n1, .inl g)) := b6
  have hS : ∀ L9 : List Loc, (∀ q ∈ L9, q.base = a1) → va_S A s.heap (H.setIfInBounds a1 c2) (locs ++ L9) := fun L9 h9 => ⟨by rw [hzz]; exact h2.1, fun q g1 g2 => by
      rw [oq q (fun e => g2 (by rw [e]; exact h1.2.2.2.2.2.1 a1 _ ha1 hwr))]
      exact h2.2.1 q g1 g2, fun q hq => by
      rcases List.mem_append.mp hq with h | h
      · exact h2.2.2 q h
      · rw [h9 q h]
        exact h1.2.2.2.2.2.1 a1 _ ha1 hwr⟩
  obtain ⟨t, c3, c4⟩ := kk _ _ ls (h1.put ha1 hwr (show (H.setIfInBounds a1 c2)[a1]? = some (vp_cell _ _) by rw [e9, ← hc2]) hc1 e9 hz hzz oq (by rw [← hc2]; rfl)) (hS _ (fun q hq => by obtain ⟨z, -, hz⟩ := List.mem_map.mp hq; rw [← hz])) (by rw [hsum_set hc1 e9 hz hzz oq]; exact h3) h4 cells slots _ hheap X'
  exact ⟨t, stp t c3, c4⟩
theorem j_cpR (C : gC D dA A K p R s m args meth c cc nL own h) {index a0 a1 tt : Nat} {sp dp n : Int32} {Cn : String} (ht : (gTys dA)[tt]? = some (dA tt, .object Cn)) (hA : ∀ c1 Cv, gAsg tt c1 = true → gNa c1 = some Cv → Cv = Cn ∨ Cond.castable Cv Cn ∈ gNw) (hh : 1 ≤ h) (ql : Cond.methodLink own index arraycopyName ∈ lw_all) (qn : Cond.native arraycopyName ∈ lw_all) (qs : Cond.static arraycopyName ∈ lw_all) (qi : Cond.initialized "java/lang/System" ∈ lw_all) (hp : gCpR w tt a0 sp a1 dp n = some w1) (hr : st.length ≤ 8) (d : decode cc pc = .ok (.invokestatic index, 3)) (kk : gJ D dA A K p l e R s m args below meth c Q nL (pc + 3) lv st w1) : gJ D dA A K p l e R s m args below meth c Q nL pc lv (gi n :: gi dp :: ga (some a1) :: gi sp :: ga (some a0) :: st) w := by
  intro H locs ls h1 h2 h3 h4 cells slots
  obtain ⟨n0, n1, f, g, ha0, ha1, ⟨b1, b2, b3, b4, b5, b6, b7⟩, rfl⟩ := gCpR_e hp
  have kf := C.2.2.2.2.2.2.2.2.2.2.1
  have kl := C.2.2.2.2.2.2.2.2.2.2.2
  have hts := C.2.2.2.2.1
  have hK := C.2.2.2.2.2.1.1
  have hw9 : nativeFrameWords "java/lang/System" "arraycopy" 5 + 11 + 8 ≤ 64 := by decide +kernel
  have hloc : ((st.map gV).map fun v => v.category).sum + (nativeFrameWords "java/lang/System" "arraycopy" 5 + 11) ≤ R.locals := by
    rw [gV_sum]
    omega
  intro T hT X
  have hc0 : H[a0]? = some (vp_cell (dA tt) (n0, .inr (.inr (.inr (.inr f))))) := h1.1 a0 _ ha0
  have hc1 : H[a1]? = some (vp_cell (dA tt) (n1, .inr (.inr (.inr (.inr g))))) := h1.1 a1 _ ha1
  obtain ⟨-, k0, hk0, cm0, hkk0⟩ := (hK.2 tt _ ht).1 n0 (fun j => va_rf (f j))
  obtain ⟨-, k1, hk1, cm1, hkk1⟩ := (hK.2 tt _ ht).1 n1 (fun j => va_rf (g j))
  obtain ⟨vm', X', stp⟩ := X.arraycopy C.1 C.2.2.2.1 (hts _ ql) (hts _ qn) (hts _ qs) (hts _ qi) (src := a0) (dst := a1) (cs := vp_cell (dA tt) (n0, .inr (.inr (.inr (.inr f))))) (cd := vp_cell (dA tt) (n1, .inr (.inr (.inr (.inr g))))) (srcPos := sp) (destPos := dp) (n := n) (by rw [hT]; exact hc0) (by rw [hT]; exact hc1)
    (fun _ h => by cases h) (fun _ h => by cases h) (fun h => by cases h) (fun h => by cases h) hk0 hk1 hkk0 hkk1 rfl b1 b2 b3
    (by rw [g_nn sp b1, g_nn n b3]; show ¬ _ > ((arrV (dA tt) n0 (fun j => va_rf (f j))).slots.size : Int); rw [arrV_size]; omega)
    (by rw [g_nn dp b2, g_nn n b3]; show ¬ _ > ((arrV (dA tt) n1 (fun j => va_rf (g j))).slots.size : Int); rw [arrV_size]; omega)
    (fun vm₁ hal i hi => by
      have e : (vp_cell (dA tt) (n0, .inr (.inr (.inr (.inr f))))).slots.getD (sp.toNatClampNeg + i) .null = va_rf (f (sp.toNatClampNeg + i)) := by
        show (arrV (dA tt) n0 (fun j => va_rf (f j))).slots.getD _ _ = _
        rw [Array.getD_eq_getD_getElem?, arrV_read _ _ (by omega)]
        rfl
      rw [e]
      have hcan := List.all_eq_true.mp b7 i (List.mem_range.mpr hi)
      cases hy : f (sp.toNatClampNeg + i) with
      | none => exact ⟨rfl, trivial⟩
      | some y =>
        rw [hy] at hcan
        obtain ⟨c1, z1, z2⟩ := gCan_e hcan
        obtain ⟨Cv, cellV, y1, y2, y3, y4⟩ := gCls_e C.2.2.2.2.2.1 h1 h2 z1
        obtain ⟨kA, comp, r1, r2, r3, -⟩ := (hK.2 tt _ ht).2
        cases hk1.symm.trans r1
        cases hkk1.symm.trans r2
        obtain ⟨kC, hkC, -⟩ := Vm.findClass_spec y4
        obtain ⟨kE, hkE, -⟩ := Vm.findClass_spec r3
        obtain ⟨kC', hkC', -⟩ := hal.2.2 _ _ hkC
        obtain ⟨kE', hkE', -⟩ := hal.2.2 _ _ hkE
        refine ⟨rfl, cellV, (show T.heap[y]? = some cellV by rw [hT]; exact y2), (fun q h => by rw [h] at y3; cases y3), ⟨kC', hkC'⟩, ?_, ?_⟩
        · exact ⟨kE', hkE'⟩
        · show vm₁.assignable _ _ = true
          rw [hal.assignable]
          rcases hA c1 Cv z2 y1 with e0 | e0
          · subst e0
            cases y4.symm.trans r3
            exact va_asg _ _
          · obtain ⟨c0, t0, f1, f2, f3⟩ := Cond.castable_spec (va_Nw.use (A := args) rfl (C.2.2.2.2.2.1.2.1 _ e0))
            cases y4.symm.trans f1
            cases r3.symm.trans f2
            exact f3)
    (g := F0 m pc ls (.int n :: .int dp :: .ref a1 :: .int sp :: .ref a0 :: st.map gV)) rfl (by rw [C.2.2.1]; exact h4.1) (rest := st.map gV) rfl (by rw [C.2.1]; exact d) (by omega) (by show 2 * 0 + _ + _ ≤ _; omega)
  have e1 : copied (vp_cell (dA tt) (n0, .inr (.inr (.inr (.inr f))))) (vp_cell (dA tt) (n1, .inr (.inr (.inr (.inr g))))) sp dp n = vp_cell (dA tt) (n1, .inr (.inr (.inr (.inr (va_cpy f g sp.toNatClampNeg dp.toNatClampNeg n.toNatClampNeg))))) := by
    rw [vp_cell_q, vp_cell_q, vp_cell_q]
    exact va_copied (fun z => va_rf z) (dA tt) (dA tt) f g b4
  rw [e1] at X' stp
  have hl : a1 < H.size := (Array.getElem?_eq_some_iff.mp hc1).1
  generalize hc2 : vp_cell (dA tt) (n1, .inr (.inr (.inr (.inr (va_cpy f g sp.toNatClampNeg dp.toNatClampNeg n.toNatClampNeg))))) = c2 at X' stp
  have hheap : ((T.setVm vm').setCell a1 c2).heap = H.setIfInBounds a1 c2 := by rw [← hT]; rfl
  have oq : ∀ q : Nat, q ≠ a1 → (H.setIfInBounds a1 c2)[q]? = H[q]? := fun q hq => by simp [Array.getElem?_setIfInBounds, Ne.symm hq]
  have e9 : (H.setIfInBounds a1 c2)[a1]? = some c2 := by simp [Array.getElem?_setIfInBounds, hl]
  have hz : c2.slots.size = (vp_cell (dA tt) (n1, .inr (.inr (.inr (.inr g))))).slots.size := by rw [← hc2]; exact (arrV_size _ _ _).trans (arrV_size _ _ _).symm
  have hzz : (H.setIfInBounds a1 c2).size = H.size := by simp
  have hwr : gWr (.inr (tt, n1, .inr g)) := b6
  have hS : ∀ L9 : List Loc, (∀ q ∈ L9, q.base = a1) → va_S A s.heap (H.setIfInBounds a1 c2) (locs ++ L9) := fun L9 h9 => ⟨by rw [hzz]; exact h2.1, fun q g1 g2 => by
      rw [oq q (fun e => g2 (by rw [e]; exact h1.2.2.2.2.2.1 a1 _ ha1 hwr))]
      exact h2.2.1 q g1 g2, fun q hq => by
      rcases List.mem_append.mp hq with h | h
      · exact h2.2.2 q h
      · rw [h9 q h]
        exact h1.2.2.2.2.2.1 a1 _ ha1 hwr⟩
  obtain ⟨t, c3, c4⟩ := kk _ _ ls (h1.put ha1 hwr (show (H.setIfInBounds a1 c2)[a1]? = some (vp_cell _ _) by rw [e9, ← hc2]) hc1 e9 hz hzz oq (by rw [← hc2]; rfl)) (hS _ (fun q hq => by obtain ⟨z, -, hz⟩ := List.mem_map.mp hq; rw [← hz])) (by rw [hsum_set hc1 e9 hz hzz oq]; exact h3) h4 cells slots _ hheap X'
  exact ⟨t, stp t c3, c4⟩
theorem j_f2i (C : gC D dA A K p R s m args meth c cc nL own h) {index : Nat} {x : UInt32} (hh : 1 ≤ h) (ql : Cond.methodLink own index ⟨"java/lang/Float", "floatToRawIntBits", "(F)I"⟩ ∈ lw_all) (qn : Cond.native ⟨"java/lang/Float", "floatToRawIntBits", "(F)I"⟩ ∈ lw_all) (qs : Cond.static ⟨"java/lang/Float", "floatToRawIntBits", "(F)I"⟩ ∈ lw_all) (qi : Cond.initialized "java/lang/Float" ∈ lw_all) (hr : st.length ≤ 8) (d : decode cc pc = .ok (.invokestatic index, 3)) (kk : gJ D dA A K p l e R s m args below meth c Q nL (pc + 3) lv (gi x.toInt32 :: st) w) : gJ D dA A K p l e R s m args below meth c Q nL pc lv (gfl x :: st) w := by
  intro H locs ls h1 h2 h3 h4 cells slots
  have kf := C.2.2.2.2.2.2.2.2.2.2.1
  have kl := C.2.2.2.2.2.2.2.2.2.2.2
  have hts := C.2.2.2.2.1
  exact vn_f2i C.1 C.2.1 (by rw [C.2.2.1]; exact h4.1.symm) C.2.2.2.1 (hts _ ql) (hts _ qn) (hts _ qs) (hts _ qi) (by omega) (by rw [gV_sum]; omega) d (kk H locs ls h1 h2 h3 h4 cells slots)
theorem g_nm0 (C : gC D dA A K p R s m args meth c cc nL own h) : s.vm.findClass "[I" = some (dA 0) := va_nm_int (C.2.2.2.2.2.1.1.2 0 _ rfl).2
theorem g_nm2 (C : gC D dA A K p R s m args meth c cc nL own h) : s.vm.findClass "[Ljava/lang/Object;" = some (dA 2) := by
  obtain ⟨kA, comp, h1, h2, h3, h4⟩ := (C.2.2.2.2.2.1.1.2 2 _ rfl).2
  rw [← (show "[" ++ (FieldType.object "java/lang/Object").toString = "[Ljava/lang/Object;" by decide +kernel)]
  exact h4
theorem g_nm3 (C : gC D dA A K p R s m args meth c cc nL own h) : s.vm.findClass "[LWorkflowEngine$Version;" = some (dA 3) := by
  obtain ⟨kA, comp, h1, h2, h3, h4⟩ := (C.2.2.2.2.2.1.1.2 3 _ rfl).2
  rw [← (show "[" ++ (FieldType.object "WorkflowEngine$Version").toString = "[LWorkflowEngine$Version;" by decide +kernel)]
  exact h4
theorem j_getClass (C : gC D dA A K p R s m args meth c cc nL own h) {index a n : Nat} {f : Nat → Option Nat} (hh : 1 ≤ h) (ql : Cond.methodLink own index ⟨"java/lang/Object", "getClass", "()Ljava/lang/Class;"⟩ ∈ lw_all) (qd : Cond.declares ⟨"java/lang/Object", "getClass", "()Ljava/lang/Class;"⟩ ∈ gNw) (qs : Cond.selects "[Ljava/lang/Object;" ⟨"java/lang/Object", "getClass", "()Ljava/lang/Class;"⟩ ⟨"java/lang/Object", "getClass", "()Ljava/lang/Class;"⟩ ∈ lw_all) (qi : Cond.instanceMethod ⟨"java/lang/Object", "getClass", "()Ljava/lang/Class;"⟩ ∈ lw_all) (qn : Cond.native ⟨"java/lang/Object", "getClass", "()Ljava/lang/Class;"⟩ ∈ lw_all) (hx : gRA w a 2 = some (n, f)) (hr : st.length ≤ 8) (d : decode cc pc = .ok (.invokevirtual index, 3)) (kk : gJ D dA A K p l e R s m args below meth c Q nL (pc + 3) lv (ga (some (w.2.2.2 8)) :: st) w) : gJ D dA A K p l e R s m args below meth c Q nL pc lv (ga (some a) :: st) w := by
  intro H locs ls h1 h2 h3 h4 cells slots
  have kf := C.2.2.2.2.2.2.2.2.2.2.1
  have kl := C.2.2.2.2.2.2.2.2.2.2.2
  have hts := C.2.2.2.2.1
  have h5 := kk H locs ls h1 h2 h3 h4 cells slots
  rw [h1.2.2.2.1] at h5
  have hc0 : H[a]? = some (vp_cell (dA 2) (n, .inr (.inr (.inr (.inr f))))) := h1.1 a _ (gRA_e hx)
  exact va_getC C.1 C.2.1 (by rw [C.2.2.1]; exact h4.1.symm) C.2.2.2.1 (hts _ ql) (gNw_use qd (C.2.2.2.2.2.1.2.1 _ qd)) (hts _ qs) (hts _ qi) (hts _ qn) C.2.2.2.2.2.1.2.2.2.2.2.2.2.2.1 ⟨_, hc0, rfl, g_nm2 C⟩ (by omega) (by rw [gV_sum]; omega) d h5
theorem j_ldcM (C : gC D dA A K p R s m args meth c cc nL own h) {index : Nat} (hq : Cond.classLink own index "[Ljava/lang/Object;" ∈ lw_all) (d : decode cc pc = .ok (.ldc index, 2)) (kk : gJ D dA A K p l e R s m args below meth c Q nL (pc + 2) lv (ga (some (w.2.2.2 8)) :: st) w) : gJ D dA A K p l e R s m args below meth c Q nL pc lv st w := by
  intro H locs ls h1 h2 h3 h4 cells slots
  have h5 := kk H locs ls h1 h2 h3 h4 cells slots
  rw [h1.2.2.2.1] at h5
  exact va_ldcM C.1 C.2.1 C.2.2.2.1 (C.2.2.2.2.1 _ hq) C.2.2.2.2.2.1.2.2.2.2.2.2.2.2.1 d h5
theorem j_nmr {x y : Option Nat} (e0 : x = y) (k : gJ D dA A K p l e R s m args below meth c Q nL pc lv (ga x :: st) w) : gJ D dA A K p l e R s m args below meth c Q nL pc lv (ga y :: st) w := by subst e0; exact k
theorem j_nm {x y : Int32} (e0 : x = y) (k : gJ D dA A K p l e R s m args below meth c Q nL pc lv (gi x :: st) w) : gJ D dA A K p l e R s m args below meth c Q nL pc lv (gi y :: st) w := by subst e0; exact k
end JK
def gZ (x : Int32) : Option Unit := if x = 0 ∨ x = 1 then some () else none
theorem gZ_e {x : Int32} {u : Unit} (h : gZ x = some u) : x = 0 ∨ x = 1 := by
  unfold gZ at h
  split at h
  · assumption
  · cases h
theorem gZ_n {x : Int32} (h : x = 0 ∨ x = 1) : narrow .boolean (.int x) = .int x := by
  rcases h with rfl | rfl <;> decide
theorem fit_I (x : Int32) : gFit "I" (gi x) := ⟨.int, by decide +kernel, rfl, rfl⟩
theorem fit_Z {x : Int32} (h : x = 0 ∨ x = 1) : gFit "Z" (gi x) := by
  refine ⟨.boolean, by decide +kernel, gZ_n h, ?_⟩
  rcases h with rfl | rfl <;> decide
def gNn (x : UInt32) : Option Unit := if x &&& 0x7fffffff ≤ 0x7f800000 then some () else none
theorem gNn_e {x : UInt32} {u : Unit} (h : gNn x = some u) : vf_n32 x := by
  unfold gNn at h
  split at h
  · assumption
  · cases h
def gNl {β : Type} (r : Option Nat) (a : β) (f : Nat → β) : β := match r with
  | none => a
  | some x => f x
theorem gNl_n {β : Type} {a r : β} {f : Nat → β} (h : gNl none a f = r) : a = r := h
theorem gNl_s {β : Type} {a r : β} {f : Nat → β} {x : Nat} (h : gNl (some x) a f = r) : f x = r := h
theorem gL_nil {lv : List (Nat × gv)} : ∀ q ∈ ([] : List (Nat × gv)), lv.lookup q.1 = some q.2 := fun _ h => absurd h List.not_mem_nil
theorem gL_cons {lv t : List (Nat × gv)} {a : Nat × gv} (h : lv.lookup a.1 = some a.2) (ht : ∀ q ∈ t, lv.lookup q.1 = some q.2) : ∀ q ∈ a :: t, lv.lookup q.1 = some q.2 := List.forall_mem_cons.mpr ⟨h, ht⟩
theorem g_ne {x : Int32} {n : Int32} {k : Int} (h : ¬ x = n) (hk : n.toInt = k) : ¬ x.toInt = k := fun q => h (Int32.toInt_inj.mp (by rw [hk]; exact q))
theorem g_out2 {x : Int32} {a : Nat} (ha : a < 1000) (h0 : ¬ x = nI (a + 0)) (h1 : ¬ x = nI (a + 1)) : x.toInt < (a : Int) ∨ ((a + 1 : Nat) : Int) < x.toInt := by
  have e0 : x.toInt ≠ ((a + 0 : Nat) : Int) := g_ne h0 (nI_toInt (by omega))
  have e1 : x.toInt ≠ ((a + 1 : Nat) : Int) := g_ne h1 (nI_toInt (by omega))
  omega
theorem g_out3 {x : Int32} {a : Nat} (ha : a < 1000) (h0 : ¬ x = nI (a + 0)) (h1 : ¬ x = nI (a + 1)) (h2 : ¬ x = nI (a + 2)) : x.toInt < (a : Int) ∨ ((a + 2 : Nat) : Int) < x.toInt := by
  have e0 : x.toInt ≠ ((a + 0 : Nat) : Int) := g_ne h0 (nI_toInt (by omega))
  have e1 : x.toInt ≠ ((a + 1 : Nat) : Int) := g_ne h1 (nI_toInt (by omega))
  have e2 : x.toInt ≠ ((a + 2 : Nat) : Int) := g_ne h2 (nI_toInt (by omega))
  omega
theorem g_out4 {x : Int32} {a : Nat} (ha : a < 1000) (h0 : ¬ x = nI (a + 0)) (h1 : ¬ x = nI (a + 1)) (h2 : ¬ x = nI (a + 2)) (h3 : ¬ x = nI (a + 3)) : x.toInt < (a : Int) ∨ ((a + 3 : Nat) : Int) < x.toInt := by
  have e0 : x.toInt ≠ ((a + 0 : Nat) : Int) := g_ne h0 (nI_toInt (by omega))
  have e1 : x.toInt ≠ ((a + 1 : Nat) : Int) := g_ne h1 (nI_toInt (by omega))
  have e2 : x.toInt ≠ ((a + 2 : Nat) : Int) := g_ne h2 (nI_toInt (by omega))
  have e3 : x.toInt ≠ ((a + 3 : Nat) : Int) := g_ne h3 (nI_toInt (by omega))
  omega
theorem g_out5 {x : Int32} {a : Nat} (ha : a < 1000) (h0 : ¬ x = nI (a + 0)) (h1 : ¬ x = nI (a + 1)) (h2 : ¬ x = nI (a + 2)) (h3 : ¬ x = nI (a + 3)) (h4 : ¬ x = nI (a + 4)) : x.toInt < (a : Int) ∨ ((a + 4 : Nat) : Int) < x.toInt := by
  have e0 : x.toInt ≠ ((a + 0 : Nat) : Int) := g_ne h0 (nI_toInt (by omega))
  have e1 : x.toInt ≠ ((a + 1 : Nat) : Int) := g_ne h1 (nI_toInt (by omega))
  have e2 : x.toInt ≠ ((a + 2 : Nat) : Int) := g_ne h2 (nI_toInt (by omega))
  have e3 : x.toInt ≠ ((a + 3 : Nat) : Int) := g_ne h3 (nI_toInt (by omega))
  have e4 : x.toInt ≠ ((a + 4 : Nat) : Int) := g_ne h4 (nI_toInt (by omega))
  omega
theorem g_out6 {x : Int32} {a : Nat} (ha : a < 1000) (h0 : ¬ x = nI (a + 0)) (h1 : ¬ x = nI (a + 1)) (h2 : ¬ x = nI (a + 2)) (h3 : ¬ x = nI (a + 3)) (h4 : ¬ x = nI (a + 4)) (h5 : ¬ x = nI (a + 5)) : x.toInt < (a : Int) ∨ ((a + 5 : Nat) : Int) < x.toInt := by
  have e0 : x.toInt ≠ ((a + 0 : Nat) : Int) := g_ne h0 (nI_toInt (by omega))
  have e1 : x.toInt ≠ ((a + 1 : Nat) : Int) := g_ne h1 (nI_toInt (by omega))
  have e2 : x.toInt ≠ ((a + 2 : Nat) : Int) := g_ne h2 (nI_toInt (by omega))
  have e3 : x.toInt ≠ ((a + 3 : Nat) : Int) := g_ne h3 (nI_toInt (by omega))
  have e4 : x.toInt ≠ ((a + 4 : Nat) : Int) := g_ne h4 (nI_toInt (by omega))
  have e5 : x.toInt ≠ ((a + 5 : Nat) : Int) := g_ne h5 (nI_toInt (by omega))
  omega
theorem g_out7 {x : Int32} {a : Nat} (ha : a < 1000) (h0 : ¬ x = nI (a + 0)) (h1 : ¬ x = nI (a + 1)) (h2 : ¬ x = nI (a + 2)) (h3 : ¬ x = nI (a + 3)) (h4 : ¬ x = nI (a + 4)) (h5 : ¬ x = nI (a + 5)) (h6 : ¬ x = nI (a + 6)) : x.toInt < (a : Int) ∨ ((a + 6 : Nat) : Int) < x.toInt := by
  have e0 : x.toInt ≠ ((a + 0 : Nat) : Int) := g_ne h0 (nI_toInt (by omega))
  have e1 : x.toInt ≠ ((a + 1 : Nat) : Int) := g_ne h1 (nI_toInt (by omega))
  have e2 : x.toInt ≠ ((a + 2 : Nat) : Int) := g_ne h2 (nI_toInt (by omega))
  have e3 : x.toInt ≠ ((a + 3 : Nat) : Int) := g_ne h3 (nI_toInt (by omega))
  have e4 : x.toInt ≠ ((a + 4 : Nat) : Int) := g_ne h4 (nI_toInt (by omega))
  have e5 : x.toInt ≠ ((a + 5 : Nat) : Int) := g_ne h5 (nI_toInt (by omega))
  have e6 : x.toInt ≠ ((a + 6 : Nat) : Int) := g_ne h6 (nI_toInt (by omega))
  omega
theorem g_out8 {x : Int32} {a : Nat} (ha : a < 1000) (h0 : ¬ x = nI (a + 0)) (h1 : ¬ x = nI (a + 1)) (h2 : ¬ x = nI (a + 2)) (h3 : ¬ x = nI (a + 3)) (h4 : ¬ x = nI (a + 4)) (h5 : ¬ x = nI (a + 5)) (h6 : ¬ x = nI (a + 6)) (h7 : ¬ x = nI (a + 7)) : x.toInt < (a : Int) ∨ ((a + 7 : Nat) : Int) < x.toInt := by
  have e0 : x.toInt ≠ ((a + 0 : Nat) : Int) := g_ne h0 (nI_toInt (by omega))
  have e1 : x.toInt ≠ ((a + 1 : Nat) : Int) := g_ne h1 (nI_toInt (by omega))
  have e2 : x.toInt ≠ ((a + 2 : Nat) : Int) := g_ne h2 (nI_toInt (by omega))
  have e3 : x.toInt ≠ ((a + 3 : Nat) : Int) := g_ne h3 (nI_toInt (by omega))
  have e4 : x.toInt ≠ ((a + 4 : Nat) : Int) := g_ne h4 (nI_toInt (by omega))
  have e5 : x.toInt ≠ ((a + 5 : Nat) : Int) := g_ne h5 (nI_toInt (by omega))
  have e6 : x.toInt ≠ ((a + 6 : Nat) : Int) := g_ne h6 (nI_toInt (by omega))
  have e7 : x.toInt ≠ ((a + 7 : Nat) : Int) := g_ne h7 (nI_toInt (by omega))
  omega
theorem g_out9 {x : Int32} {a : Nat} (ha : a < 1000) (h0 : ¬ x = nI (a + 0)) (h1 : ¬ x = nI (a + 1)) (h2 : ¬ x = nI (a + 2)) (h3 : ¬ x = nI (a + 3)) (h4 : ¬ x = nI (a + 4)) (h5 : ¬ x = nI (a + 5)) (h6 : ¬ x = nI (a + 6)) (h7 : ¬ x = nI (a + 7)) (h8 : ¬ x = nI (a + 8)) : x.toInt < (a : Int) ∨ ((a + 8 : Nat) : Int) < x.toInt := by
  have e0 : x.toInt ≠ ((a + 0 : Nat) : Int) := g_ne h0 (nI_toInt (by omega))
  have e1 : x.toInt ≠ ((a + 1 : Nat) : Int) := g_ne h1 (nI_toInt (by omega))
  have e2 : x.toInt ≠ ((a + 2 : Nat) : Int) := g_ne h2 (nI_toInt (by omega))
  have e3 : x.toInt ≠ ((a + 3 : Nat) : Int) := g_ne h3 (nI_toInt (by omega))
  have e4 : x.toInt ≠ ((a + 4 : Nat) : Int) := g_ne h4 (nI_toInt (by omega))
  have e5 : x.toInt ≠ ((a + 5 : Nat) : Int) := g_ne h5 (nI_toInt (by omega))
  have e6 : x.toInt ≠ ((a + 6 : Nat) : Int) := g_ne h6 (nI_toInt (by omega))
  have e7 : x.toInt ≠ ((a + 7 : Nat) : Int) := g_ne h7 (nI_toInt (by omega))
  have e8 : x.toInt ≠ ((a + 8 : Nat) : Int) := g_ne h8 (nI_toInt (by omega))
  omega
theorem g_out10 {x : Int32} {a : Nat} (ha : a < 1000) (h0 : ¬ x = nI (a + 0)) (h1 : ¬ x = nI (a + 1)) (h2 : ¬ x = nI (a + 2)) (h3 : ¬ x = nI (a + 3)) (h4 : ¬ x = nI (a + 4)) (h5 : ¬ x = nI (a + 5)) (h6 : ¬ x = nI (a + 6)) (h7 : ¬ x = nI (a + 7)) (h8 : ¬ x = nI (a + 8)) (h9 : ¬ x = nI (a + 9)) : x.toInt < (a : Int) ∨ ((a + 9 : Nat) : Int) < x.toInt := by
  have e0 : x.toInt ≠ ((a + 0 : Nat) : Int) := g_ne h0 (nI_toInt (by omega))
  have e1 : x.toInt ≠ ((a + 1 : Nat) : Int) := g_ne h1 (nI_toInt (by omega))
  have e2 : x.toInt ≠ ((a + 2 : Nat) : Int) := g_ne h2 (nI_toInt (by omega))
  have e3 : x.toInt ≠ ((a + 3 : Nat) : Int) := g_ne h3 (nI_toInt (by omega))
  have e4 : x.toInt ≠ ((a + 4 : Nat) : Int) := g_ne h4 (nI_toInt (by omega))
  have e5 : x.toInt ≠ ((a + 5 : Nat) : Int) := g_ne h5 (nI_toInt (by omega))
  have e6 : x.toInt ≠ ((a + 6 : Nat) : Int) := g_ne h6 (nI_toInt (by omega))
  have e7 : x.toInt ≠ ((a + 7 : Nat) : Int) := g_ne h7 (nI_toInt (by omega))
  have e8 : x.toInt ≠ ((a + 8 : Nat) : Int) := g_ne h8 (nI_toInt (by omega))
  have e9 : x.toInt ≠ ((a + 9 : Nat) : Int) := g_ne h9 (nI_toInt (by omega))
  omega
theorem g_out11 {x : Int32} {a : Nat} (ha : a < 1000) (h0 : ¬ x = nI (a + 0)) (h1 : ¬ x = nI (a + 1)) (h2 : ¬ x = nI (a + 2)) (h3 : ¬ x = nI (a + 3)) (h4 : ¬ x = nI (a + 4)) (h5 : ¬ x = nI (a + 5)) (h6 : ¬ x = nI (a + 6)) (h7 : ¬ x = nI (a + 7)) (h8 : ¬ x = nI (a + 8)) (h9 : ¬ x = nI (a + 9)) (h10 : ¬ x = nI (a + 10)) : x.toInt < (a : Int) ∨ ((a + 10 : Nat) : Int) < x.toInt := by
  have e0 : x.toInt ≠ ((a + 0 : Nat) : Int) := g_ne h0 (nI_toInt (by omega))
  have e1 : x.toInt ≠ ((a + 1 : Nat) : Int) := g_ne h1 (nI_toInt (by omega))
  have e2 : x.toInt ≠ ((a + 2 : Nat) : Int) := g_ne h2 (nI_toInt (by omega))
  have e3 : x.toInt ≠ ((a + 3 : Nat) : Int) := g_ne h3 (nI_toInt (by omega))
  have e4 : x.toInt ≠ ((a + 4 : Nat) : Int) := g_ne h4 (nI_toInt (by omega))
  have e5 : x.toInt ≠ ((a + 5 : Nat) : Int) := g_ne h5 (nI_toInt (by omega))
  have e6 : x.toInt ≠ ((a + 6 : Nat) : Int) := g_ne h6 (nI_toInt (by omega))
  have e7 : x.toInt ≠ ((a + 7 : Nat) : Int) := g_ne h7 (nI_toInt (by omega))
  have e8 : x.toInt ≠ ((a + 8 : Nat) : Int) := g_ne h8 (nI_toInt (by omega))
  have e9 : x.toInt ≠ ((a + 9 : Nat) : Int) := g_ne h9 (nI_toInt (by omega))
  have e10 : x.toInt ≠ ((a + 10 : Nat) : Int) := g_ne h10 (nI_toInt (by omega))
  omega
theorem g_out12 {x : Int32} {a : Nat} (ha : a < 1000) (h0 : ¬ x = nI (a + 0)) (h1 : ¬ x = nI (a + 1)) (h2 : ¬ x = nI (a + 2)) (h3 : ¬ x = nI (a + 3)) (h4 : ¬ x = nI (a + 4)) (h5 : ¬ x = nI (a + 5)) (h6 : ¬ x = nI (a + 6)) (h7 : ¬ x = nI (a + 7)) (h8 : ¬ x = nI (a + 8)) (h9 : ¬ x = nI (a + 9)) (h10 : ¬ x = nI (a + 10)) (h11 : ¬ x = nI (a + 11)) : x.toInt < (a : Int) ∨ ((a + 11 : Nat) : Int) < x.toInt := by
  have e0 : x.toInt ≠ ((a + 0 : Nat) : Int) := g_ne h0 (nI_toInt (by omega))
  have e1 : x.toInt ≠ ((a + 1 : Nat) : Int) := g_ne h1 (nI_toInt (by omega))
  have e2 : x.toInt ≠ ((a + 2 : Nat) : Int) := g_ne h2 (nI_toInt (by omega))
  have e3 : x.toInt ≠ ((a + 3 : Nat) : Int) := g_ne h3 (nI_toInt (by omega))
  have e4 : x.toInt ≠ ((a + 4 : Nat) : Int) := g_ne h4 (nI_toInt (by omega))
  have e5 : x.toInt ≠ ((a + 5 : Nat) : Int) := g_ne h5 (nI_toInt (by omega))
  have e6 : x.toInt ≠ ((a + 6 : Nat) : Int) := g_ne h6 (nI_toInt (by omega))
  have e7 : x.toInt ≠ ((a + 7 : Nat) : Int) := g_ne h7 (nI_toInt (by omega))
  have e8 : x.toInt ≠ ((a + 8 : Nat) : Int) := g_ne h8 (nI_toInt (by omega))
  have e9 : x.toInt ≠ ((a + 9 : Nat) : Int) := g_ne h9 (nI_toInt (by omega))
  have e10 : x.toInt ≠ ((a + 10 : Nat) : Int) := g_ne h10 (nI_toInt (by omega))
  have e11 : x.toInt ≠ ((a + 11 : Nat) : Int) := g_ne h11 (nI_toInt (by omega))
  omega
theorem g_out13 {x : Int32} {a : Nat} (ha : a < 1000) (h0 : ¬ x = nI (a + 0)) (h1 : ¬ x = nI (a + 1)) (h2 : ¬ x = nI (a + 2)) (h3 : ¬ x = nI (a + 3)) (h4 : ¬ x = nI (a + 4)) (h5 : ¬ x = nI (a + 5)) (h6 : ¬ x = nI (a + 6)) (h7 : ¬ x = nI (a + 7)) (h8 : ¬ x = nI (a + 8)) (h9 : ¬ x = nI (a + 9)) (h10 : ¬ x = nI (a + 10)) (h11 : ¬ x = nI (a + 11)) (h12 : ¬ x = nI (a + 12)) : x.toInt < (a : Int) ∨ ((a + 12 : Nat) : Int) < x.toInt := by
  have e0 : x.toInt ≠ ((a + 0 : Nat) : Int) := g_ne h0 (nI_toInt (by omega))
  have e1 : x.toInt ≠ ((a + 1 : Nat) : Int) := g_ne h1 (nI_toInt (by omega))
  have e2 : x.toInt ≠ ((a + 2 : Nat) : Int) := g_ne h2 (nI_toInt (by omega))
  have e3 : x.toInt ≠ ((a + 3 : Nat) : Int) := g_ne h3 (nI_toInt (by omega))
  have e4 : x.toInt ≠ ((a + 4 : Nat) : Int) := g_ne h4 (nI_toInt (by omega))
  have e5 : x.toInt ≠ ((a + 5 : Nat) : Int) := g_ne h5 (nI_toInt (by omega))
  have e6 : x.toInt ≠ ((a + 6 : Nat) : Int) := g_ne h6 (nI_toInt (by omega))
  have e7 : x.toInt ≠ ((a + 7 : Nat) : Int) := g_ne h7 (nI_toInt (by omega))
  have e8 : x.toInt ≠ ((a + 8 : Nat) : Int) := g_ne h8 (nI_toInt (by omega))
  have e9 : x.toInt ≠ ((a + 9 : Nat) : Int) := g_ne h9 (nI_toInt (by omega))
  have e10 : x.toInt ≠ ((a + 10 : Nat) : Int) := g_ne h10 (nI_toInt (by omega))
  have e11 : x.toInt ≠ ((a + 11 : Nat) : Int) := g_ne h11 (nI_toInt (by omega))
  have e12 : x.toInt ≠ ((a + 12 : Nat) : Int) := g_ne h12 (nI_toInt (by omega))
  omega
theorem g_out14 {x : Int32} {a : Nat} (ha : a < 1000) (h0 : ¬ x = nI (a + 0)) (h1 : ¬ x = nI (a + 1)) (h2 : ¬ x = nI (a + 2)) (h3 : ¬ x = nI (a + 3)) (h4 : ¬ x = nI (a + 4)) (h5 : ¬ x = nI (a + 5)) (h6 : ¬ x = nI (a + 6)) (h7 : ¬ x = nI (a + 7)) (h8 : ¬ x = nI (a + 8)) (h9 : ¬ x = nI (a + 9)) (h10 : ¬ x = nI (a + 10)) (h11 : ¬ x = nI (a + 11)) (h12 : ¬ x = nI (a + 12)) (h13 : ¬ x = nI (a + 13)) : x.toInt < (a : Int) ∨ ((a + 13 : Nat) : Int) < x.toInt := by
  have e0 : x.toInt ≠ ((a + 0 : Nat) : Int) := g_ne h0 (nI_toInt (by omega))
  have e1 : x.toInt ≠ ((a + 1 : Nat) : Int) := g_ne h1 (nI_toInt (by omega))
  have e2 : x.toInt ≠ ((a + 2 : Nat) : Int) := g_ne h2 (nI_toInt (by omega))
  have e3 : x.toInt ≠ ((a + 3 : Nat) : Int) := g_ne h3 (nI_toInt (by omega))
  have e4 : x.toInt ≠ ((a + 4 : Nat) : Int) := g_ne h4 (nI_toInt (by omega))
  have e5 : x.toInt ≠ ((a + 5 : Nat) : Int) := g_ne h5 (nI_toInt (by omega))
  have e6 : x.toInt ≠ ((a + 6 : Nat) : Int) := g_ne h6 (nI_toInt (by omega))
  have e7 : x.toInt ≠ ((a + 7 : Nat) : Int) := g_ne h7 (nI_toInt (by omega))
  have e8 : x.toInt ≠ ((a + 8 : Nat) : Int) := g_ne h8 (nI_toInt (by omega))
  have e9 : x.toInt ≠ ((a + 9 : Nat) : Int) := g_ne h9 (nI_toInt (by omega))
  have e10 : x.toInt ≠ ((a + 10 : Nat) : Int) := g_ne h10 (nI_toInt (by omega))
  have e11 : x.toInt ≠ ((a + 11 : Nat) : Int) := g_ne h11 (nI_toInt (by omega))
  have e12 : x.toInt ≠ ((a + 12 : Nat) : Int) := g_ne h12 (nI_toInt (by omega))
  have e13 : x.toInt ≠ ((a + 13 : Nat) : Int) := g_ne h13 (nI_toInt (by omega))
  omega
theorem g_out15 {x : Int32} {a : Nat} (ha : a < 1000) (h0 : ¬ x = nI (a + 0)) (h1 : ¬ x = nI (a + 1)) (h2 : ¬ x = nI (a + 2)) (h3 : ¬ x = nI (a + 3)) (h4 : ¬ x = nI (a + 4)) (h5 : ¬ x = nI (a + 5)) (h6 : ¬ x = nI (a + 6)) (h7 : ¬ x = nI (a + 7)) (h8 : ¬ x = nI (a + 8)) (h9 : ¬ x = nI (a + 9)) (h10 : ¬ x = nI (a + 10)) (h11 : ¬ x = nI (a + 11)) (h12 : ¬ x = nI (a + 12)) (h13 : ¬ x = nI (a + 13)) (h14 : ¬ x = nI (a + 14)) : x.toInt < (a : Int) ∨ ((a + 14 : Nat) : Int) < x.toInt := by
  have e0 : x.toInt ≠ ((a + 0 : Nat) : Int) := g_ne h0 (nI_toInt (by omega))
  have e1 : x.toInt ≠ ((a + 1 : Nat) : Int) := g_ne h1 (nI_toInt (by omega))
  have e2 : x.toInt ≠ ((a + 2 : Nat) : Int) := g_ne h2 (nI_toInt (by omega))
  have e3 : x.toInt ≠ ((a + 3 : Nat) : Int) := g_ne h3 (nI_toInt (by omega))
  have e4 : x.toInt ≠ ((a + 4 : Nat) : Int) := g_ne h4 (nI_toInt (by omega))
  have e5 : x.toInt ≠ ((a + 5 : Nat) : Int) := g_ne h5 (nI_toInt (by omega))
  have e6 : x.toInt ≠ ((a + 6 : Nat) : Int) := g_ne h6 (nI_toInt (by omega))
  have e7 : x.toInt ≠ ((a + 7 : Nat) : Int) := g_ne h7 (nI_toInt (by omega))
  have e8 : x.toInt ≠ ((a + 8 : Nat) : Int) := g_ne h8 (nI_toInt (by omega))
  have e9 : x.toInt ≠ ((a + 9 : Nat) : Int) := g_ne h9 (nI_toInt (by omega))
  have e10 : x.toInt ≠ ((a + 10 : Nat) : Int) := g_ne h10 (nI_toInt (by omega))
  have e11 : x.toInt ≠ ((a + 11 : Nat) : Int) := g_ne h11 (nI_toInt (by omega))
  have e12 : x.toInt ≠ ((a + 12 : Nat) : Int) := g_ne h12 (nI_toInt (by omega))
  have e13 : x.toInt ≠ ((a + 13 : Nat) : Int) := g_ne h13 (nI_toInt (by omega))
  have e14 : x.toInt ≠ ((a + 14 : Nat) : Int) := g_ne h14 (nI_toInt (by omega))
  omega
theorem g_out16 {x : Int32} {a : Nat} (ha : a < 1000) (h0 : ¬ x = nI (a + 0)) (h1 : ¬ x = nI (a + 1)) (h2 : ¬ x = nI (a + 2)) (h3 : ¬ x = nI (a + 3)) (h4 : ¬ x = nI (a + 4)) (h5 : ¬ x = nI (a + 5)) (h6 : ¬ x = nI (a + 6)) (h7 : ¬ x = nI (a + 7)) (h8 : ¬ x = nI (a + 8)) (h9 : ¬ x = nI (a + 9)) (h10 : ¬ x = nI (a + 10)) (h11 : ¬ x = nI (a + 11)) (h12 : ¬ x = nI (a + 12)) (h13 : ¬ x = nI (a + 13)) (h14 : ¬ x = nI (a + 14)) (h15 : ¬ x = nI (a + 15)) : x.toInt < (a : Int) ∨ ((a + 15 : Nat) : Int) < x.toInt := by
  have e0 : x.toInt ≠ ((a + 0 : Nat) : Int) := g_ne h0 (nI_toInt (by omega))
  have e1 : x.toInt ≠ ((a + 1 : Nat) : Int) := g_ne h1 (nI_toInt (by omega))
  have e2 : x.toInt ≠ ((a + 2 : Nat) : Int) := g_ne h2 (nI_toInt (by omega))
  have e3 : x.toInt ≠ ((a + 3 : Nat) : Int) := g_ne h3 (nI_toInt (by omega))
  have e4 : x.toInt ≠ ((a + 4 : Nat) : Int) := g_ne h4 (nI_toInt (by omega))
  have e5 : x.toInt ≠ ((a + 5 : Nat) : Int) := g_ne h5 (nI_toInt (by omega))
  have e6 : x.toInt ≠ ((a + 6 : Nat) : Int) := g_ne h6 (nI_toInt (by omega))
  have e7 : x.toInt ≠ ((a + 7 : Nat) : Int) := g_ne h7 (nI_toInt (by omega))
  have e8 : x.toInt ≠ ((a + 8 : Nat) : Int) := g_ne h8 (nI_toInt (by omega))
  have e9 : x.toInt ≠ ((a + 9 : Nat) : Int) := g_ne h9 (nI_toInt (by omega))
  have e10 : x.toInt ≠ ((a + 10 : Nat) : Int) := g_ne h10 (nI_toInt (by omega))
  have e11 : x.toInt ≠ ((a + 11 : Nat) : Int) := g_ne h11 (nI_toInt (by omega))
  have e12 : x.toInt ≠ ((a + 12 : Nat) : Int) := g_ne h12 (nI_toInt (by omega))
  have e13 : x.toInt ≠ ((a + 13 : Nat) : Int) := g_ne h13 (nI_toInt (by omega))
  have e14 : x.toInt ≠ ((a + 14 : Nat) : Int) := g_ne h14 (nI_toInt (by omega))
  have e15 : x.toInt ≠ ((a + 15 : Nat) : Int) := g_ne h15 (nI_toInt (by omega))
  omega
theorem g_out17 {x : Int32} {a : Nat} (ha : a < 1000) (h0 : ¬ x = nI (a + 0)) (h1 : ¬ x = nI (a + 1)) (h2 : ¬ x = nI (a + 2)) (h3 : ¬ x = nI (a + 3)) (h4 : ¬ x = nI (a + 4)) (h5 : ¬ x = nI (a + 5)) (h6 : ¬ x = nI (a + 6)) (h7 : ¬ x = nI (a + 7)) (h8 : ¬ x = nI (a + 8)) (h9 : ¬ x = nI (a + 9)) (h10 : ¬ x = nI (a + 10)) (h11 : ¬ x = nI (a + 11)) (h12 : ¬ x = nI (a + 12)) (h13 : ¬ x = nI (a + 13)) (h14 : ¬ x = nI (a + 14)) (h15 : ¬ x = nI (a + 15)) (h16 : ¬ x = nI (a + 16)) : x.toInt < (a : Int) ∨ ((a + 16 : Nat) : Int) < x.toInt := by
  have e0 : x.toInt ≠ ((a + 0 : Nat) : Int) := g_ne h0 (nI_toInt (by omega))
  have e1 : x.toInt ≠ ((a + 1 : Nat) : Int) := g_ne h1 (nI_toInt (by omega))
  have e2 : x.toInt ≠ ((a + 2 : Nat) : Int) := g_ne h2 (nI_toInt (by omega))
  have e3 : x.toInt ≠ ((a + 3 : Nat) : Int) := g_ne h3 (nI_toInt (by omega))
  have e4 : x.toInt ≠ ((a + 4 : Nat) : Int) := g_ne h4 (nI_toInt (by omega))
  have e5 : x.toInt ≠ ((a + 5 : Nat) : Int) := g_ne h5 (nI_toInt (by omega))
  have e6 : x.toInt ≠ ((a + 6 : Nat) : Int) := g_ne h6 (nI_toInt (by omega))
  have e7 : x.toInt ≠ ((a + 7 : Nat) : Int) := g_ne h7 (nI_toInt (by omega))
  have e8 : x.toInt ≠ ((a + 8 : Nat) : Int) := g_ne h8 (nI_toInt (by omega))
  have e9 : x.toInt ≠ ((a + 9 : Nat) : Int) := g_ne h9 (nI_toInt (by omega))
  have e10 : x.toInt ≠ ((a + 10 : Nat) : Int) := g_ne h10 (nI_toInt (by omega))
  have e11 : x.toInt ≠ ((a + 11 : Nat) : Int) := g_ne h11 (nI_toInt (by omega))
  have e12 : x.toInt ≠ ((a + 12 : Nat) : Int) := g_ne h12 (nI_toInt (by omega))
  have e13 : x.toInt ≠ ((a + 13 : Nat) : Int) := g_ne h13 (nI_toInt (by omega))
  have e14 : x.toInt ≠ ((a + 14 : Nat) : Int) := g_ne h14 (nI_toInt (by omega))
  have e15 : x.toInt ≠ ((a + 15 : Nat) : Int) := g_ne h15 (nI_toInt (by omega))
  have e16 : x.toInt ≠ ((a + 16 : Nat) : Int) := g_ne h16 (nI_toInt (by omega))
  omega
theorem g_out18 {x : Int32} {a : Nat} (ha : a < 1000) (h0 : ¬ x = nI (a + 0)) (h1 : ¬ x = nI (a + 1)) (h2 : ¬ x = nI (a + 2)) (h3 : ¬ x = nI (a + 3)) (h4 : ¬ x = nI (a + 4)) (h5 : ¬ x = nI (a + 5)) (h6 : ¬ x = nI (a + 6)) (h7 : ¬ x = nI (a + 7)) (h8 : ¬ x = nI (a + 8)) (h9 : ¬ x = nI (a + 9)) (h10 : ¬ x = nI (a + 10)) (h11 : ¬ x = nI (a + 11)) (h12 : ¬ x = nI (a + 12)) (h13 : ¬ x = nI (a + 13)) (h14 : ¬ x = nI (a + 14)) (h15 : ¬ x = nI (a + 15)) (h16 : ¬ x = nI (a + 16)) (h17 : ¬ x = nI (a + 17)) : x.toInt < (a : Int) ∨ ((a + 17 : Nat) : Int) < x.toInt := by
  have e0 : x.toInt ≠ ((a + 0 : Nat) : Int) := g_ne h0 (nI_toInt (by omega))
  have e1 : x.toInt ≠ ((a + 1 : Nat) : Int) := g_ne h1 (nI_toInt (by omega))
  have e2 : x.toInt ≠ ((a + 2 : Nat) : Int) := g_ne h2 (nI_toInt (by omega))
  have e3 : x.toInt ≠ ((a + 3 : Nat) : Int) := g_ne h3 (nI_toInt (by omega))
  have e4 : x.toInt ≠ ((a + 4 : Nat) : Int) := g_ne h4 (nI_toInt (by omega))
  have e5 : x.toInt ≠ ((a + 5 : Nat) : Int) := g_ne h5 (nI_toInt (by omega))
  have e6 : x.toInt ≠ ((a + 6 : Nat) : Int) := g_ne h6 (nI_toInt (by omega))
  have e7 : x.toInt ≠ ((a + 7 : Nat) : Int) := g_ne h7 (nI_toInt (by omega))
  have e8 : x.toInt ≠ ((a + 8 : Nat) : Int) := g_ne h8 (nI_toInt (by omega))
  have e9 : x.toInt ≠ ((a + 9 : Nat) : Int) := g_ne h9 (nI_toInt (by omega))
  have e10 : x.toInt ≠ ((a + 10 : Nat) : Int) := g_ne h10 (nI_toInt (by omega))
  have e11 : x.toInt ≠ ((a + 11 : Nat) : Int) := g_ne h11 (nI_toInt (by omega))
  have e12 : x.toInt ≠ ((a + 12 : Nat) : Int) := g_ne h12 (nI_toInt (by omega))
  have e13 : x.toInt ≠ ((a + 13 : Nat) : Int) := g_ne h13 (nI_toInt (by omega))
  have e14 : x.toInt ≠ ((a + 14 : Nat) : Int) := g_ne h14 (nI_toInt (by omega))
  have e15 : x.toInt ≠ ((a + 15 : Nat) : Int) := g_ne h15 (nI_toInt (by omega))
  have e16 : x.toInt ≠ ((a + 16 : Nat) : Int) := g_ne h16 (nI_toInt (by omega))
  have e17 : x.toInt ≠ ((a + 17 : Nat) : Int) := g_ne h17 (nI_toInt (by omega))
  omega
theorem g_out19 {x : Int32} {a : Nat} (ha : a < 1000) (h0 : ¬ x = nI (a + 0)) (h1 : ¬ x = nI (a + 1)) (h2 : ¬ x = nI (a + 2)) (h3 : ¬ x = nI (a + 3)) (h4 : ¬ x = nI (a + 4)) (h5 : ¬ x = nI (a + 5)) (h6 : ¬ x = nI (a + 6)) (h7 : ¬ x = nI (a + 7)) (h8 : ¬ x = nI (a + 8)) (h9 : ¬ x = nI (a + 9)) (h10 : ¬ x = nI (a + 10)) (h11 : ¬ x = nI (a + 11)) (h12 : ¬ x = nI (a + 12)) (h13 : ¬ x = nI (a + 13)) (h14 : ¬ x = nI (a + 14)) (h15 : ¬ x = nI (a + 15)) (h16 : ¬ x = nI (a + 16)) (h17 : ¬ x = nI (a + 17)) (h18 : ¬ x = nI (a + 18)) : x.toInt < (a : Int) ∨ ((a + 18 : Nat) : Int) < x.toInt := by
  have e0 : x.toInt ≠ ((a + 0 : Nat) : Int) := g_ne h0 (nI_toInt (by omega))
  have e1 : x.toInt ≠ ((a + 1 : Nat) : Int) := g_ne h1 (nI_toInt (by omega))
  have e2 : x.toInt ≠ ((a + 2 : Nat) : Int) := g_ne h2 (nI_toInt (by omega))
  have e3 : x.toInt ≠ ((a + 3 : Nat) : Int) := g_ne h3 (nI_toInt (by omega))
  have e4 : x.toInt ≠ ((a + 4 : Nat) : Int) := g_ne h4 (nI_toInt (by omega))
  have e5 : x.toInt ≠ ((a + 5 : Nat) : Int) := g_ne h5 (nI_toInt (by omega))
  have e6 : x.toInt ≠ ((a + 6 : Nat) : Int) := g_ne h6 (nI_toInt (by omega))
  have e7 : x.toInt ≠ ((a + 7 : Nat) : Int) := g_ne h7 (nI_toInt (by omega))
  have e8 : x.toInt ≠ ((a + 8 : Nat) : Int) := g_ne h8 (nI_toInt (by omega))
  have e9 : x.toInt ≠ ((a + 9 : Nat) : Int) := g_ne h9 (nI_toInt (by omega))
  have e10 : x.toInt ≠ ((a + 10 : Nat) : Int) := g_ne h10 (nI_toInt (by omega))
  have e11 : x.toInt ≠ ((a + 11 : Nat) : Int) := g_ne h11 (nI_toInt (by omega))
  have e12 : x.toInt ≠ ((a + 12 : Nat) : Int) := g_ne h12 (nI_toInt (by omega))
  have e13 : x.toInt ≠ ((a + 13 : Nat) : Int) := g_ne h13 (nI_toInt (by omega))
  have e14 : x.toInt ≠ ((a + 14 : Nat) : Int) := g_ne h14 (nI_toInt (by omega))
  have e15 : x.toInt ≠ ((a + 15 : Nat) : Int) := g_ne h15 (nI_toInt (by omega))
  have e16 : x.toInt ≠ ((a + 16 : Nat) : Int) := g_ne h16 (nI_toInt (by omega))
  have e17 : x.toInt ≠ ((a + 17 : Nat) : Int) := g_ne h17 (nI_toInt (by omega))
  have e18 : x.toInt ≠ ((a + 18 : Nat) : Int) := g_ne h18 (nI_toInt (by omega))
  omega
theorem g_out20 {x : Int32} {a : Nat} (ha : a < 1000) (h0 : ¬ x = nI (a + 0)) (h1 : ¬ x = nI (a + 1)) (h2 : ¬ x = nI (a + 2)) (h3 : ¬ x = nI (a + 3)) (h4 : ¬ x = nI (a + 4)) (h5 : ¬ x = nI (a + 5)) (h6 : ¬ x = nI (a + 6)) (h7 : ¬ x = nI (a + 7)) (h8 : ¬ x = nI (a + 8)) (h9 : ¬ x = nI (a + 9)) (h10 : ¬ x = nI (a + 10)) (h11 : ¬ x = nI (a + 11)) (h12 : ¬ x = nI (a + 12)) (h13 : ¬ x = nI (a + 13)) (h14 : ¬ x = nI (a + 14)) (h15 : ¬ x = nI (a + 15)) (h16 : ¬ x = nI (a + 16)) (h17 : ¬ x = nI (a + 17)) (h18 : ¬ x = nI (a + 18)) (h19 : ¬ x = nI (a + 19)) : x.toInt < (a : Int) ∨ ((a + 19 : Nat) : Int) < x.toInt := by
  have e0 : x.toInt ≠ ((a + 0 : Nat) : Int) := g_ne h0 (nI_toInt (by omega))
  have e1 : x.toInt ≠ ((a + 1 : Nat) : Int) := g_ne h1 (nI_toInt (by omega))
  have e2 : x.toInt ≠ ((a + 2 : Nat) : Int) := g_ne h2 (nI_toInt (by omega))
  have e3 : x.toInt ≠ ((a + 3 : Nat) : Int) := g_ne h3 (nI_toInt (by omega))
  have e4 : x.toInt ≠ ((a + 4 : Nat) : Int) := g_ne h4 (nI_toInt (by omega))
  have e5 : x.toInt ≠ ((a + 5 : Nat) : Int) := g_ne h5 (nI_toInt (by omega))
  have e6 : x.toInt ≠ ((a + 6 : Nat) : Int) := g_ne h6 (nI_toInt (by omega))
  have e7 : x.toInt ≠ ((a + 7 : Nat) : Int) := g_ne h7 (nI_toInt (by omega))
  have e8 : x.toInt ≠ ((a + 8 : Nat) : Int) := g_ne h8 (nI_toInt (by omega))
  have e9 : x.toInt ≠ ((a + 9 : Nat) : Int) := g_ne h9 (nI_toInt (by omega))
  have e10 : x.toInt ≠ ((a + 10 : Nat) : Int) := g_ne h10 (nI_toInt (by omega))
  have e11 : x.toInt ≠ ((a + 11 : Nat) : Int) := g_ne h11 (nI_toInt (by omega))
  have e12 : x.toInt ≠ ((a + 12 : Nat) : Int) := g_ne h12 (nI_toInt (by omega))
  have e13 : x.toInt ≠ ((a + 13 : Nat) : Int) := g_ne h13 (nI_toInt (by omega))
  have e14 : x.toInt ≠ ((a + 14 : Nat) : Int) := g_ne h14 (nI_toInt (by omega))
  have e15 : x.toInt ≠ ((a + 15 : Nat) : Int) := g_ne h15 (nI_toInt (by omega))
  have e16 : x.toInt ≠ ((a + 16 : Nat) : Int) := g_ne h16 (nI_toInt (by omega))
  have e17 : x.toInt ≠ ((a + 17 : Nat) : Int) := g_ne h17 (nI_toInt (by omega))
  have e18 : x.toInt ≠ ((a + 18 : Nat) : Int) := g_ne h18 (nI_toInt (by omega))
  have e19 : x.toInt ≠ ((a + 19 : Nat) : Int) := g_ne h19 (nI_toInt (by omega))
  omega
theorem g_out21 {x : Int32} {a : Nat} (ha : a < 1000) (h0 : ¬ x = nI (a + 0)) (h1 : ¬ x = nI (a + 1)) (h2 : ¬ x = nI (a + 2)) (h3 : ¬ x = nI (a + 3)) (h4 : ¬ x = nI (a + 4)) (h5 : ¬ x = nI (a + 5)) (h6 : ¬ x = nI (a + 6)) (h7 : ¬ x = nI (a + 7)) (h8 : ¬ x = nI (a + 8)) (h9 : ¬ x = nI (a + 9)) (h10 : ¬ x = nI (a + 10)) (h11 : ¬ x = nI (a + 11)) (h12 : ¬ x = nI (a + 12)) (h13 : ¬ x = nI (a + 13)) (h14 : ¬ x = nI (a + 14)) (h15 : ¬ x = nI (a + 15)) (h16 : ¬ x = nI (a + 16)) (h17 : ¬ x = nI (a + 17)) (h18 : ¬ x = nI (a + 18)) (h19 : ¬ x = nI (a + 19)) (h20 : ¬ x = nI (a + 20)) : x.toInt < (a : Int) ∨ ((a + 20 : Nat) : Int) < x.toInt := by
  have e0 : x.toInt ≠ ((a + 0 : Nat) : Int) := g_ne h0 (nI_toInt (by omega))
  have e1 : x.toInt ≠ ((a + 1 : Nat) : Int) := g_ne h1 (nI_toInt (by omega))
  have e2 : x.toInt ≠ ((a + 2 : Nat) : Int) := g_ne h2 (nI_toInt (by omega))
  have e3 : x.toInt ≠ ((a + 3 : Nat) : Int) := g_ne h3 (nI_toInt (by omega))
  have e4 : x.toInt ≠ ((a + 4 : Nat) : Int) := g_ne h4 (nI_toInt (by omega))
  have e5 : x.toInt ≠ ((a + 5 : Nat) : Int) := g_ne h5 (nI_toInt (by omega))
  have e6 : x.toInt ≠ ((a + 6 : Nat) : Int) := g_ne h6 (nI_toInt (by omega))
  have e7 : x.toInt ≠ ((a + 7 : Nat) : Int) := g_ne h7 (nI_toInt (by omega))
  have e8 : x.toInt ≠ ((a + 8 : Nat) : Int) := g_ne h8 (nI_toInt (by omega))
  have e9 : x.toInt ≠ ((a + 9 : Nat) : Int) := g_ne h9 (nI_toInt (by omega))
  have e10 : x.toInt ≠ ((a + 10 : Nat) : Int) := g_ne h10 (nI_toInt (by omega))
  have e11 : x.toInt ≠ ((a + 11 : Nat) : Int) := g_ne h11 (nI_toInt (by omega))
  have e12 : x.toInt ≠ ((a + 12 : Nat) : Int) := g_ne h12 (nI_toInt (by omega))
  have e13 : x.toInt ≠ ((a + 13 : Nat) : Int) := g_ne h13 (nI_toInt (by omega))
  have e14 : x.toInt ≠ ((a + 14 : Nat) : Int) := g_ne h14 (nI_toInt (by omega))
  have e15 : x.toInt ≠ ((a + 15 : Nat) : Int) := g_ne h15 (nI_toInt (by omega))
  have e16 : x.toInt ≠ ((a + 16 : Nat) : Int) := g_ne h16 (nI_toInt (by omega))
  have e17 : x.toInt ≠ ((a + 17 : Nat) : Int) := g_ne h17 (nI_toInt (by omega))
  have e18 : x.toInt ≠ ((a + 18 : Nat) : Int) := g_ne h18 (nI_toInt (by omega))
  have e19 : x.toInt ≠ ((a + 19 : Nat) : Int) := g_ne h19 (nI_toInt (by omega))
  have e20 : x.toInt ≠ ((a + 20 : Nat) : Int) := g_ne h20 (nI_toInt (by omega))
  omega
