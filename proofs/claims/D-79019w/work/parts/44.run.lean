set_option maxRecDepth 100000
/-! RUNNING the component's methods by simp: reads and writes as functions of the cell -/
def pvF (c k : Nat) : gE → Option gv
  | .inl (c', fs) => if c' = c then fs[k]? else none
  | .inr _ => none
def pvI : gv → Option Int32
  | .inl x => some x
  | .inr _ => none
def pvR : gv → Option (Option Nat)
  | .inr (.inl r) => some r
  | _ => none
def pvP (w : gw) (a c k : Nat) (v : gv) : gE → Option gw
  | .inl (c', fs) => if c' = c ∧ fs[k]?.isSome = true then some (hs w a (.inl (c, fs.set k v))) else none
  | .inr _ => none
def pvLI (t : Nat) (x : Int32) : gE → Option Int32
  | .inr (t', n, .inl f) => if t' = t then (gIx x n).map f else none
  | _ => none
def pvLR (t : Nat) (x : Int32) : gE → Option (Option Nat)
  | .inr (t', n, .inr f) => if t' = t then (gIx x n).map f else none
  | _ => none
def pvSI (w : gw) (a t : Nat) (x v : Int32) : gE → Option gw
  | .inr (t', n, .inl f) => if t' = t then (gIx x n).map fun j => hs w a (.inr (t, n, .inl (upd f j v))) else none
  | _ => none
def pvSR (w : gw) (a t : Nat) (x : Int32) (r : Option Nat) : gE → Option gw
  | .inr (t', n, .inr f) => if t' = t then (gIx x n).bind fun j => if gCan w t r = true then some (hs w a (.inr (t, n, .inr (va_up f j r)))) else none else none
  | _ => none
def pvN (t : Nat) : gE → Option Int32
  | .inr (t', n, _) => if t' = t then some (nI n) else none
  | .inl _ => none
def pvO (c : Nat) : gE → Option Unit
  | .inl (c', _) => if c' = c then some () else none
  | .inr _ => none
theorem pv_F (w : gw) (a c k : Nat) : gF w a c k = (w.1 a).bind (pvF c k) := by
  unfold gF
  rcases w.1 a with _ | (⟨c', fs⟩ | _) <;> rfl
theorem pv_I (w : gw) (a c k : Nat) : gI w a c k = ((w.1 a).bind (pvF c k)).bind pvI := by
  unfold gI
  rw [pv_F]
  rcases (w.1 a).bind (pvF c k) with _ | (_ | _) <;> rfl
theorem pv_R (w : gw) (a c k : Nat) : gR w a c k = ((w.1 a).bind (pvF c k)).bind pvR := by
  unfold gR
  rw [pv_F]
  rcases (w.1 a).bind (pvF c k) with _ | (_ | (_ | _)) <;> rfl
theorem pv_P (w : gw) (a c k : Nat) (v : gv) : gPut w a c k v = (w.1 a).bind (pvP w a c k v) := by
  unfold gPut
  rcases w.1 a with _ | (⟨c', fs⟩ | _)
  · rfl
  · show (if c' = c ∧ k < fs.length then _ else none) = (if c' = c ∧ fs[k]?.isSome = true then _ else none)
    have e : (fs[k]?.isSome = true) = (k < fs.length) := by simp
    simp only [e]
    rfl
  · rfl
theorem pv_LI (w : gw) (a t : Nat) (x : Int32) : gLdI w a t x = (w.1 a).bind (pvLI t x) := by
  unfold gLdI gIA
  rcases w.1 a with _ | (_ | ⟨t', n, (f | f)⟩)
  · rfl
  · rfl
  · show ((if t' = t then some (n, f) else none).bind _) = if t' = t then (gIx x n).map f else none
    split <;> rfl
  · rfl
theorem pv_LR (w : gw) (a t : Nat) (x : Int32) : gLdR w a t x = (w.1 a).bind (pvLR t x) := by
  unfold gLdR gRA
  rcases w.1 a with _ | (_ | ⟨t', n, (f | f)⟩)
  · rfl
  · rfl
  · rfl
  · show ((if t' = t then some (n, f) else none).bind _) = if t' = t then (gIx x n).map f else none
    split <;> rfl
theorem pv_SI (w : gw) (a t : Nat) (x v : Int32) : gStI w a t x v = (w.1 a).bind (pvSI w a t x v) := by
  unfold gStI gIA
  rcases w.1 a with _ | (_ | ⟨t', n, (f | f)⟩)
  · rfl
  · rfl
  · show ((if t' = t then some (n, f) else none).bind _) = if t' = t then (gIx x n).map _ else none
    split <;> rfl
  · rfl
theorem pv_SR (w : gw) (a t : Nat) (x : Int32) (r : Option Nat) : gStR w a t x r = (w.1 a).bind (pvSR w a t x r) := by
  unfold gStR gRA
  rcases w.1 a with _ | (_ | ⟨t', n, (f | f)⟩)
  · rfl
  · rfl
  · rfl
  · show ((if t' = t then some (n, f) else none).bind _) = if t' = t then (gIx x n).bind _ else none
    split <;> rfl
def pvC (w : gw) (a : Nat) : Option gE → Option Nat
  | some (.inl (c, _)) => some c
  | _ => if a = w.2.2.2 2 then some 101 else if a = w.2.2.2 3 then some 102 else if a = w.2.2.2 4 then some 103 else none
theorem pv_C (w : gw) (a : Nat) : gCls w a = pvC w a (w.1 a) := by
  unfold gCls
  rcases w.1 a with _ | (⟨c', fs⟩ | _) <;> rfl
theorem pv_O (w : gw) (a c : Nat) : gOb w a c = (pvC w a (w.1 a)).bind fun c0 => if c0 = c then some () else none := by
  unfold gOb
  rw [pv_C]
  rcases pvC w a (w.1 a) with _ | _ <;> rfl
theorem pv_bs {α β : Type} (v : α) (k : α → Option β) : (some v).bind k = k v := id rfl
theorem pv_ms {α β : Type} (v : α) (k : α → β) : (some v).map k = some (k v) := id rfl
theorem hs_K (w : gw) (a : Nat) (e : gE) : (hs w a e).2.2.2 = w.2.2.2 := id rfl
theorem ne_of {w : gw} {a b : Nat} {e e' : gE} (h1 : w.1 a = some e) (h2 : w.1 b = some e') (h : e ≠ e') : a ≠ b := by
  rintro rfl
  rw [h1] at h2
  exact h (Option.some.inj h2)
theorem ne_ofT {tg : pT} {a b : Nat} {x y : Nat × Nat} (h1 : tg a = x) (h2 : tg b = y) (h : x ≠ y) : a ≠ b := by
  rintro rfl
  exact h (h1.symm.trans h2)
theorem hs_id {w : gw} {a : Nat} {e : gE} (h : w.1 a = some e) : hs w a e = w := by
  unfold hs
  refine Prod.ext (funext fun j => ?_) rfl
  show va_up w.1 a (some e) j = w.1 j
  unfold va_up
  by_cases hj : j = a
  · rw [if_pos hj, hj, h]
  · rw [if_neg hj]
/-- the history behind notes -/
def hNotes (fh : Nat → Int32) (E : Nat) (t k v : Int32) : Nat → Int32 := if 200 ≤ E then fh else upd (upd (upd fh (3 * E) t) (3 * E + 1) k) (3 * E + 2) v
theorem pf_notes {w : gw} {ia mo hi E : Nat} {f1 f2 f3 f4 f5 f6 f9 f10 f11 f12 f13 f14 f15 d0 d1 d2 d4 : gv} {t kk vv : Int32} {fh : Nat → Int32}
    (hI : w.1 ia = some (.inl (16, [ga (some mo), f1, f2, f3, f4, f5, f6, ga (some hi), gi (nI E), f9, f10, f11, f12, f13, f14, f15]))) (hM : w.1 mo = some (.inl (1, [d0, d1, d2, gi t, d4]))) (hH : w.1 hi = some (.inr (0, 600, .inl fh))) (hE : E < 2 ^ 31) :
    f_X16_notes ia kk vv w = some ((), hs (hs w hi (.inr (0, 600, .inl (hNotes fh E t kk vv)))) ia (.inl (16, [ga (some mo), f1, f2, f3, f4, f5, f6, ga (some hi), gi (nI (E + 1)), f9, f10, f11, f12, f13, f14, f15]))) := by
  have n1 : ia ≠ hi := ne_of hI hH (by simp)
  have n2 : mo ≠ hi := ne_of hM hH (by simp)
  have n3 : ia ≠ mo := ne_of hI hM (by simp)
  unfold f_X16_notes hNotes
  by_cases h : 200 ≤ E
  · have h1 : nI 200 ≤ nI E := nI_le h hE
    simp (disch := first | assumption | omega) only [pu_B1, pu_B2, pu_Bd, pu_Nn, pu_Ns, pv_I, pv_R, pv_P, pv_LI, pv_LR, pv_SI, pv_SR, pv_O, pv_C, pvF, pvI, pvR, pvP, pvLI, pvLR, pvSI, pvSR, pvN, pvO, pvC, pv_bs, pv_ms, hs_self, hs_ne, hs_K, hs_2, List.getElem?_cons_succ, List.getElem?_cons_zero, List.set_cons_succ, List.set_cons_zero, Option.isSome_some, if_true, if_false, true_and, and_true, ↓reduceIte, hI, hM, hH, h, h1, nI_add, hs_id hH]
  · have h1 : ¬ nI 200 ≤ nI E := nI_ge (by omega) (by omega)
    simp (disch := first | assumption | omega) only [pu_B1, pu_B2, pu_Bd, pu_Nn, pu_Ns, pv_I, pv_R, pv_P, pv_LI, pv_LR, pv_SI, pv_SR, pv_O, pv_C, pvF, pvI, pvR, pvP, pvLI, pvLR, pvSI, pvSR, pvN, pvO, pvC, pv_bs, pv_ms, hs_self, hs_ne, hs_K, hs_2, List.getElem?_cons_succ, List.getElem?_cons_zero, List.set_cons_succ, List.set_cons_zero, Option.isSome_some, if_true, if_false, true_and, and_true, ↓reduceIte, hI, hM, hH, h, h1, nI_add, pu_mul, pu_gIx, hs_hs]
