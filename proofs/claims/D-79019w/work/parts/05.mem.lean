/-! ===== memory: the functions of the abstract heap ===== -/
def gF (w : gw) (a ci k : Nat) : Option gv := match w.1 a with
  | some (.inl (c, fs)) => if c = ci then fs[k]? else none
  | _ => none
def gI (w : gw) (a ci k : Nat) : Option Int32 := match gF w a ci k with
  | some (.inl x) => some x
  | _ => none
def gR (w : gw) (a ci k : Nat) : Option (Option Nat) := match gF w a ci k with
  | some (.inr (.inl r)) => some r
  | _ => none
theorem gI_F {w : gw} {a ci k : Nat} {x : Int32} (h : gI w a ci k = some x) : gF w a ci k = some (gi x) := by
  unfold gI at h
  split at h
  · rename_i y e
    cases h
    exact e
  · cases h
theorem gR_F {w : gw} {a ci k : Nat} {r : Option Nat} (h : gR w a ci k = some r) : gF w a ci k = some (ga r) := by
  unfold gR at h
  split at h
  · rename_i y e
    cases h
    exact e
  · cases h
def gPut (w : gw) (a ci k : Nat) (v : gv) : Option gw := match w.1 a with
  | some (.inl (c, fs)) => if c = ci ∧ k < fs.length then some (va_up w.1 a (some (.inl (ci, fs.set k v))), w.2) else none
  | _ => none
def gIx (i : Int32) (n : Nat) : Option Nat := if i < 0 ∨ n ≤ i.toNatClampNeg then none else some i.toNatClampNeg
def gIA (w : gw) (a t : Nat) : Option (Nat × (Nat → Int32)) := match w.1 a with
  | some (.inr (t', n, .inl f)) => if t' = t then some (n, f) else none
  | _ => none
def gRA (w : gw) (a t : Nat) : Option (Nat × (Nat → Option Nat)) := match w.1 a with
  | some (.inr (t', n, .inr f)) => if t' = t then some (n, f) else none
  | _ => none
def gLdI (w : gw) (a t : Nat) (i : Int32) : Option Int32 := (gIA w a t).bind fun q => (gIx i q.1).map q.2
def gLdR (w : gw) (a t : Nat) (i : Int32) : Option (Option Nat) := (gRA w a t).bind fun q => (gIx i q.1).map q.2
def gStI (w : gw) (a t : Nat) (i x : Int32) : Option gw := (gIA w a t).bind fun q => (gIx i q.1).map fun j => (va_up w.1 a (some (.inr (t, q.1, .inl (upd q.2 j x)))), w.2)
/-- the class's number of the object at a: those of our table, 101, 102, 103 the three constants -/
def gCls (w : gw) (a : Nat) : Option Nat := match w.1 a with
  | some (.inl (c, _)) => some c
  | _ => if a = w.2.2.2 2 then some 101 else if a = w.2.2.2 3 then some 102 else if a = w.2.2.2 4 then some 103 else none
def gCan (w : gw) (t : Nat) (r : Option Nat) : Bool := match r with
  | none => true
  | some v => match gCls w v with
    | some c => gAsg t c
    | none => false
def gStR (w : gw) (a t : Nat) (i : Int32) (r : Option Nat) : Option gw := (gRA w a t).bind fun q => (gIx i q.1).bind fun j =>
  if gCan w t r = true then some (va_up w.1 a (some (.inr (t, q.1, .inr (va_up q.2 j r)))), w.2) else none
def gLen (w : gw) (a t : Nat) : Option Int32 := match w.1 a with
  | some (.inr (t', n, _)) => if t' = t then some (Int32.ofNat n) else none
  | some (.inl _) => none
  | none => if a = w.2.2.2 5 ∧ t = 2 then some 0 else none
def gNew (w : gw) (ci : Nat) : Option (Nat × gw) := match gNs[ci]? with
  | some (n, fs) => if w.2.1 + 1 ≤ w.2.2.2 0 ∧ w.2.2.1 + n ≤ w.2.2.2 1 then some (w.2.1, (va_up w.1 w.2.1 (some (.inl (ci, fs))), w.2.1 + 1, w.2.2.1 + n, w.2.2.2)) else none
  | none => none
def gNewI (w : gw) (t : Nat) (n : Int32) : Option (Nat × gw) := if ¬ n < 0 ∧ n.toNatClampNeg * 4 ≤ 536870912 ∧ w.2.1 + 1 ≤ w.2.2.2 0 ∧ w.2.2.1 + n.toNatClampNeg ≤ w.2.2.2 1 then some (w.2.1, (va_up w.1 w.2.1 (some (.inr (t, n.toNatClampNeg, .inl (fun _ => 0)))), w.2.1 + 1, w.2.2.1 + n.toNatClampNeg, w.2.2.2)) else none
def gNewR (w : gw) (t : Nat) (n : Int32) : Option (Nat × gw) := if ¬ n < 0 ∧ n.toNatClampNeg * 4 ≤ 536870912 ∧ w.2.1 + 1 ≤ w.2.2.2 0 ∧ w.2.2.1 + n.toNatClampNeg ≤ w.2.2.2 1 then some (w.2.1, (va_up w.1 w.2.1 (some (.inr (t, n.toNatClampNeg, .inr (fun _ => none)))), w.2.1 + 1, w.2.2.1 + n.toNatClampNeg, w.2.2.2)) else none
def gKd (t : Nat) (x : (Nat → Int32) ⊕ (Nat → Option Nat)) : Bool := match x with
  | .inl _ => decide (t < 2)
  | .inr _ => decide (2 ≤ t)
def gCln (w : gw) (a t : Nat) : Option (Nat × gw) := match w.1 a with
  | some (.inr (t', n, x)) => if t' = t ∧ gKd t x = true ∧ w.2.1 + 1 ≤ w.2.2.2 0 ∧ w.2.2.1 + n ≤ w.2.2.2 1 then some (w.2.1, (va_up w.1 w.2.1 (some (.inr (t, n, x))), w.2.1 + 1, w.2.2.1 + n, w.2.2.2)) else none
  | _ => none
def gCpI (w : gw) (t a0 : Nat) (sp : Int32) (a1 : Nat) (dp n : Int32) : Option gw := (gIA w a0 t).bind fun q0 => (gIA w a1 t).bind fun q1 =>
  if ¬ sp < 0 ∧ ¬ dp < 0 ∧ ¬ n < 0 ∧ sp.toNatClampNeg + n.toNatClampNeg ≤ q0.1 ∧ dp.toNatClampNeg + n.toNatClampNeg ≤ q1.1 ∧ 0 < q1.1 then some (va_up w.1 a1 (some (.inr (t, q1.1, .inl (va_cpy q0.2 q1.2 sp.toNatClampNeg dp.toNatClampNeg n.toNatClampNeg)))), w.2) else none
def gCpOk (w : gw) (t : Nat) (f : Nat → Option Nat) (sp n : Nat) : Bool := (List.range n).all fun i => gCan w t (f (sp + i))
def gCpR (w : gw) (t a0 : Nat) (sp : Int32) (a1 : Nat) (dp n : Int32) : Option gw := (gRA w a0 t).bind fun q0 => (gRA w a1 t).bind fun q1 =>
  if ¬ sp < 0 ∧ ¬ dp < 0 ∧ ¬ n < 0 ∧ sp.toNatClampNeg + n.toNatClampNeg ≤ q0.1 ∧ dp.toNatClampNeg + n.toNatClampNeg ≤ q1.1 ∧ 0 < q1.1 ∧ gCpOk w t q0.2 sp.toNatClampNeg n.toNatClampNeg = true then some (va_up w.1 a1 (some (.inr (t, q1.1, .inr (va_cpy q0.2 q1.2 sp.toNatClampNeg dp.toNatClampNeg n.toNatClampNeg)))), w.2) else none
/-- instanceof and checkcast: the target by its class's number -/
def gIs (w : gw) (tg nt : List Nat) (r : Option Nat) : Option Int32 := match r with
  | none => some 0
  | some a => match gCls w a with
    | some c => if tg.contains c then some 1 else if nt.contains c then some 0 else none
    | none => none
def gCk (w : gw) (tg : List Nat) (r : Option Nat) : Option (Option Nat) := match r with
  | none => some none
  | some a => match gCls w a with
    | some c => if tg.contains c then some (some a) else none
    | none => none
def gCkA (w : gw) (t : Nat) (r : Option Nat) : Option (Option Nat) := match r with
  | none => some none
  | some a => match w.1 a with
    | some (.inr (t', _, _)) => if t' = t then some (some a) else none
    | _ => none
/-- a name for a value; a join; loops by fuel -/
def gBd {α β : Type} (x : α) (k : α → β) : β := k x
theorem gBd_e {α β : Type} {x y : α} {k : α → β} {r : β} (h : gBd x k = r) (e : y = x) : k y = r := by subst e; exact h
def gB1 {α β : Type} (x : Option α) (k : α → Option β) : Option β := x.bind k
theorem gB1_e {α β : Type} {x : Option α} {k : α → Option β} {y : β} (h : gB1 x k = some y) : ∃ a, x = some a ∧ k a = some y := Option.bind_eq_some_iff.mp h
def gB2 {α β γ : Type} (x : Option (α × β)) (k : α → β → Option γ) : Option γ := match x with
  | some (a, b) => k a b
  | none => none
theorem gB2_e {α β γ : Type} {x : Option (α × β)} {k : α → β → Option γ} {y : γ} (h : gB2 x k = some y) : ∃ a b, x = some (a, b) ∧ k a b = some y := by
  cases x with
  | none => cases h
  | some q => exact ⟨q.1, q.2, rfl, h⟩
theorem gIf_t {α : Type} {P : Prop} {i : Decidable P} {a b r : α} (h : ite P a b = r) (c : P) : a = r := by rw [if_pos c] at h; exact h
theorem gIf_f {α : Type} {P : Prop} {i : Decidable P} {a b r : α} (h : ite P a b = r) (c : ¬ P) : b = r := by rw [if_neg c] at h; exact h
theorem gV_sum (st : List gv) : ((st.map gV).map fun v => v.category).sum = st.length := by
  induction st with
  | nil => rfl
  | cons a t ih => rw [List.map_cons, List.map_cons, List.sum_cons, ih, gV_cat, List.length_cons]; omega
theorem gSome {α β : Type} {a c : α} {b d : β} (h : some (a, b) = some (c, d)) : a = c ∧ b = d := by
  have h1 := Option.some.inj h
  exact ⟨congrArg Prod.fst h1, congrArg Prod.snd h1⟩
theorem gF_e {w : gw} {a ci k : Nat} {v : gv} (h : gF w a ci k = some v) : ∃ fs, w.1 a = some (.inl (ci, fs)) ∧ fs[k]? = some v := by
  unfold gF at h
  split at h
  · rename_i c0 fs e
    split at h
    · rename_i e2
      subst e2
      exact ⟨fs, e, h⟩
    · cases h
  · cases h
theorem gPut_e {w w1 : gw} {a ci k : Nat} {v : gv} (h : gPut w a ci k v = some w1) : ∃ fs, w.1 a = some (.inl (ci, fs)) ∧ k < fs.length ∧ w1 = (va_up w.1 a (some (.inl (ci, fs.set k v))), w.2) := by
  unfold gPut at h
  split at h
  · rename_i c0 fs e
    split at h
    · rename_i e2
      obtain ⟨rfl, e3⟩ := e2
      cases h
      exact ⟨fs, e, e3, rfl⟩
    · cases h
  · cases h
theorem gIx_e {i : Int32} {n j : Nat} (h : gIx i n = some j) : vp_in i n ∧ j = i.toNatClampNeg ∧ j < n := by
  unfold gIx at h
  split at h
  · cases h
  · rename_i e
    cases h
    exact ⟨e, rfl, Nat.not_le.mp (fun q => e (Or.inr q))⟩
theorem gIA_e {w : gw} {a t n : Nat} {f : Nat → Int32} (h : gIA w a t = some (n, f)) : w.1 a = some (.inr (t, n, .inl f)) := by
  unfold gIA at h
  split at h
  · rename_i t0 n0 f0 e
    split at h
    · rename_i e2
      subst e2
      cases h
      exact e
    · cases h
  · cases h
theorem gRA_e {w : gw} {a t n : Nat} {f : Nat → Option Nat} (h : gRA w a t = some (n, f)) : w.1 a = some (.inr (t, n, .inr f)) := by
  unfold gRA at h
  split at h
  · rename_i t0 n0 f0 e
    split at h
    · rename_i e2
      subst e2
      cases h
      exact e
    · cases h
  · cases h
theorem gLdI_e {w : gw} {a t : Nat} {i x : Int32} (h : gLdI w a t i = some x) : ∃ n f, w.1 a = some (.inr (t, n, .inl f)) ∧ vp_in i n ∧ x = f i.toNatClampNeg := by
  unfold gLdI at h
  obtain ⟨⟨n, f⟩, h1, h2⟩ := Option.bind_eq_some_iff.mp h
  obtain ⟨j, h3, h4⟩ := Option.map_eq_some_iff.mp h2
  obtain ⟨h5, h6, -⟩ := gIx_e h3
  exact ⟨n, f, gIA_e h1, h5, by rw [← h4, h6]⟩
theorem gLdR_e {w : gw} {a t : Nat} {i : Int32} {x : Option Nat} (h : gLdR w a t i = some x) : ∃ n f, w.1 a = some (.inr (t, n, .inr f)) ∧ vp_in i n ∧ x = f i.toNatClampNeg := by
  unfold gLdR at h
  obtain ⟨⟨n, f⟩, h1, h2⟩ := Option.bind_eq_some_iff.mp h
  obtain ⟨j, h3, h4⟩ := Option.map_eq_some_iff.mp h2
  obtain ⟨h5, h6, -⟩ := gIx_e h3
  exact ⟨n, f, gRA_e h1, h5, by rw [← h4, h6]⟩
theorem gStI_e {w w1 : gw} {a t : Nat} {i x : Int32} (h : gStI w a t i x = some w1) : ∃ n f, w.1 a = some (.inr (t, n, .inl f)) ∧ vp_in i n ∧ w1 = (va_up w.1 a (some (.inr (t, n, .inl (upd f i.toNatClampNeg x)))), w.2) := by
  unfold gStI at h
  obtain ⟨⟨n, f⟩, h1, h2⟩ := Option.bind_eq_some_iff.mp h
  obtain ⟨j, h3, h4⟩ := Option.map_eq_some_iff.mp h2
  obtain ⟨h5, h6, -⟩ := gIx_e h3
  exact ⟨n, f, gIA_e h1, h5, by rw [← h4, h6]⟩
theorem gCan_e {w : gw} {t v : Nat} (h : gCan w t (some v) = true) : ∃ c, gCls w v = some c ∧ gAsg t c = true := by
  unfold gCan at h
  simp only [] at h
  cases e : gCls w v with
  | none => rw [e] at h; cases h
  | some c0 => rw [e] at h; exact ⟨c0, rfl, h⟩
theorem gStR_e {w w1 : gw} {a t : Nat} {i : Int32} {r : Option Nat} (h : gStR w a t i r = some w1) : ∃ n f, w.1 a = some (.inr (t, n, .inr f)) ∧ vp_in i n ∧ (∀ v, r = some v → ∃ c, gCls w v = some c ∧ gAsg t c = true) ∧ w1 = (va_up w.1 a (some (.inr (t, n, .inr (va_up f i.toNatClampNeg r)))), w.2) := by
  unfold gStR at h
  obtain ⟨⟨n, f⟩, h1, h2⟩ := Option.bind_eq_some_iff.mp h
  obtain ⟨j, h3, h4⟩ := Option.bind_eq_some_iff.mp h2
  obtain ⟨h5, h6, -⟩ := gIx_e h3
  by_cases e0 : gCan w t r = true
  · rw [if_pos e0] at h4
    refine ⟨n, f, gRA_e h1, h5, fun v hv => ?_, ?_⟩
    · subst hv
      exact gCan_e e0
    · cases h4
      rw [h6]
  · rw [if_neg e0] at h4
    cases h4
theorem gP1 {D : va_G} {cl : List vw_C} {q : Nat × va_E} {H : Heap} (h : va_at D cl q H) : va_P D cl [q] H := by
  intro k q' hk
  cases k with
  | zero => cases hk; exact h
  | succ n => simp at hk
/-- a cell is written: the others stay -/
theorem gOK.put {D : va_G} {dA : Nat → ClassId} {A : Nat → Prop} {K : Nat → Nat} {w : gw} {H H1 : Heap} {a : Nat} {e0 e1 : gE} {cell c1 : Cell} (h : gOK D dA A K w H) (h0 : w.1 a = some e0) (hw : gWr e0) (he : va_at D gCl (a, gVE dA e1) H1) (c0 : H[a]? = some cell) (c9 : H1[a]? = some c1) (hz : c1.slots.size = cell.slots.size) (z : H1.size = H.size) (oq : ∀ q, q ≠ a → H1[q]? = H[q]?) (hmo : c1.monitor = cell.monitor) : gOK D dA A K (va_up w.1 a (some e1), w.2) H1 := by
  obtain ⟨g1, g2, g3, g4, g5, g6, g7, g8, g9⟩ := h
  refine ⟨fun b e hb => ?_, z.trans g2, (hsum_set c0 c9 hz z oq).trans g3, g4, g5, fun b e hb hwr => ?_, g7, g8, fun b e hb => ?_⟩
  · have hb : va_up w.1 a (some e1) b = some e := hb
    by_cases hba : b = a
    · subst hba
      rw [va_up_self] at hb
      cases hb
      exact he
    · rw [va_up_ne _ _ hba] at hb
      exact (g1 b e hb).kept (oq b hba)
  · have hb : va_up w.1 a (some e1) b = some e := hb
    by_cases hba : b = a
    · rw [hba]
      exact g6 a e0 h0 hw
    · rw [va_up_ne _ _ hba] at hb
      exact g6 b e hb hwr
  · have hb : va_up w.1 a (some e1) b = some e := hb
    by_cases hba : b = a
    · subst hba
      obtain ⟨c8, m1, m2⟩ := g9 b e0 h0
      cases Option.some.inj (c0.symm.trans m1)
      exact ⟨c1, c9, hmo.trans m2⟩
    · rw [va_up_ne _ _ hba] at hb
      rw [oq b hba]
      exact g9 b e hb
/-- a cell is made -/
theorem gOK.push {D : va_G} {dA : Nat → ClassId} {A : Nat → Prop} {K : Nat → Nat} {w : gw} {H : Heap} {e1 : gE} {c1 : Cell} {n : Nat} (h : gOK D dA A K w H) (he : va_at D gCl (H.size, gVE dA e1) (H.push c1)) (hz : c1.slots.size = n) (l0 : w.2.1 + 1 ≤ w.2.2.2 0) (l1 : w.2.2.1 + n ≤ w.2.2.2 1) (hmo : c1.monitor = {}) : gOK D dA A K (va_up w.1 w.2.1 (some e1), w.2.1 + 1, w.2.2.1 + n, w.2.2.2) (H.push c1) := by
  obtain ⟨g1, g2, g3, g4, g5, g6, g7, g8, g9⟩ := h
  refine ⟨fun b e hb => ?_, ?_, ?_, g4, fun q hq => g5 q (Nat.le_of_succ_le hq), fun b e hb hwr => ?_, by rw [← g4]; exact l0, by rw [← g4]; exact l1, fun b e hb => ?_⟩
  · have hb : va_up w.1 w.2.1 (some e1) b = some e := hb
    by_cases hba : b = w.2.1
    · subst hba
      rw [va_up_self] at hb
      cases hb
      rw [← g2]
      exact he
    · rw [va_up_ne _ _ hba] at hb
      have h1 := g1 b e hb
      have hlt : b < H.size := h1.lt
      exact h1.kept (by rw [Array.getElem?_push, if_neg (Nat.ne_of_lt hlt)])
  · rw [Array.size_push, g2]
  · rw [hsum_push, g3, hz]
  · have hb : va_up w.1 w.2.1 (some e1) b = some e := hb
    by_cases hba : b = w.2.1
    · rw [hba]
      exact g5 _ (Nat.le_refl _)
    · rw [va_up_ne _ _ hba] at hb
      exact g6 b e hb hwr
  · have hb : va_up w.1 w.2.1 (some e1) b = some e := hb
    by_cases hba : b = w.2.1
    · subst hba
      exact ⟨c1, by rw [← g2, Array.getElem?_push_size], hmo⟩
    · rw [va_up_ne _ _ hba] at hb
      obtain ⟨c8, m1, m2⟩ := g9 b e hb
      have hlt : b < H.size := (g1 b e hb).lt
      exact ⟨c8, by rw [Array.getElem?_push, if_neg (Nat.ne_of_lt hlt)]; exact m1, m2⟩
/-- a field's link: class's place ci in gCl, field k -/
def gFL (own : String) (index ci k : Nat) : Prop := ∃ (Cn : String) (T : u_T) (N : Nat) (ref : String), gCl[ci]? = some (Cn, T, N) ∧ (∀ w ∈ u_ws Cn T N, w ∈ lw_all) ∧ k < N ∧ (Cond.fieldLink own index ref (T k).2.1 (T k).2.2.1 ∈ lw_all ∨ ∃ host, Cond.fieldLinkNest own index ref (T k).2.1 (T k).2.2.1 host ∈ gNw) ∧ (ref = (T k).1 ∨ Cond.sameField ref (T k).1 (T k).2.1 (T k).2.2.1 ∈ lw_all)
theorem gFL.mk {own : String} {index ci k : Nat} {Cn : String} {T : u_T} {N : Nat} {ref nm d : String} (hc : gCl[ci]? = some (Cn, T, N)) (hin : ∀ w ∈ u_ws Cn T N, w ∈ lw_all) (hk : k < N) (hl : Cond.fieldLink own index ref nm d ∈ lw_all) (e1 : (T k).2.1 = nm) (e2 : (T k).2.2.1 = d) (hs : ref = (T k).1 ∨ Cond.sameField ref (T k).1 (T k).2.1 (T k).2.2.1 ∈ lw_all) : gFL own index ci k := ⟨Cn, T, N, ref, hc, hin, hk, Or.inl (by rw [e1, e2]; exact hl), hs⟩
theorem gFL.mkN {own : String} {index ci k : Nat} {Cn : String} {T : u_T} {N : Nat} {ref nm d host : String} (hc : gCl[ci]? = some (Cn, T, N)) (hin : ∀ w ∈ u_ws Cn T N, w ∈ lw_all) (hk : k < N) (hl : Cond.fieldLinkNest own index ref nm d host ∈ gNw) (e1 : (T k).2.1 = nm) (e2 : (T k).2.2.1 = d) (hs : ref = (T k).1 ∨ Cond.sameField ref (T k).1 (T k).2.1 (T k).2.2.1 ∈ lw_all) : gFL own index ci k := ⟨Cn, T, N, ref, hc, hin, hk, Or.inr ⟨host, by rw [e1, e2]; exact hl⟩, hs⟩
def gNm (T : u_T) (N : Nat) : Prop := ∀ a, a < N → ∀ b, b < N → a ≠ b → (T a).2.1 ≠ (T b).2.1 ∨ ((T a).2.2.2 = true ∧ (T b).2.2.2 = true ∧ (T a).1 ≠ (T b).1)
/-- a class's table: types of its fields, no two in one slot -/
def gTb (ci : Nat) : Prop := ∀ (Cn : String) (T : u_T) (N : Nat), gCl[ci]? = some (Cn, T, N) → gNm T N ∧ ∃ ty0 : Nat → FieldType, ∀ j, j < N → parseFieldDescriptor (T j).2.2.1 = some (ty0 j)
def gFk (ci k : Nat) (d : String) (fin : Bool) (dec : String) : Prop := ∀ (Cn : String) (T : u_T) (N : Nat), gCl[ci]? = some (Cn, T, N) → (T k).2.2.1 = d ∧ (T k).2.2.2 = fin ∧ (T k).1 = dec
def gFit (d : String) (v : gv) : Prop := ∃ ty, parseFieldDescriptor d = some ty ∧ narrow ty (gV v) = gV v ∧ fits ty (gV v) = true
theorem u_of_sole {s : State} {args : Array Value} {C O n d : String} {cf kf fi fd} (h : (Cond.laysFinal C O n d).before args s = true) (hi : s.fieldFound? O n d = some (cf, kf, fi, fd)) : kf.name = O := by
  obtain ⟨c, k, c', k', i, f, -, -, hf', -, -, -, hown, -⟩ := Cond.laysFinal_spec h
  cases hi.symm.trans hf'
  obtain ⟨k2, hk2, hn2⟩ := Vm.findClass_spec hown
  cases hk2.symm.trans (State.fieldFound?_spec hi).1
  exact hn2
section GAP
variable {s : State} {args : Array Value} {D : va_G} {tys : List (ClassId × FieldType)}
theorem g_apart {Cn : String} {T : u_T} {N ci : Nat} {Ts : List Cond} (hts : ∀ w ∈ Ts, w.before args s = true) (hin : ∀ w ∈ u_ws Cn T N, w ∈ Ts) (ty : Nat → FieldType) (hty : ∀ k, k < N → parseFieldDescriptor (T k).2.2.1 = some (ty k)) (hnm : gNm T N) (hK : va_K D gCl tys s) (hc : gCl[ci]? = some (Cn, T, N)) : ∀ x y, x < N → y < N → x ≠ y → (D.2 ci) x ≠ (D.2 ci) y := by
  intro x y hx hy hne
  obtain ⟨hS, -⟩ := hK.1 ci _ hc
  obtain ⟨ca, ka, ia, fa, hia, ea⟩ := hS x hx
  obtain ⟨cb, kb, ib, fb, hib, eb⟩ := hS y hy
  rw [← ea, ← eb]
  rcases hnm x hx y hy hne with h1 | ⟨f1, f2, h1⟩
  · refine u_apart (u_lays hts hin hx) (u_lays hts hin hy) hia hib ?_
    rw [(State.fieldFound?_type hia (hty x hx)).1, (State.fieldFound?_type hib (hty y hy)).1]
    exact h1
  · have lx := hts _ (hin _ (u_in_lay hx))
    have ly := hts _ (hin _ (u_in_lay hy))
    unfold u_lay at lx ly
    rw [if_pos f1] at lx
    rw [if_pos f2] at ly
    have nx := u_of_sole lx hia
    have ny := u_of_sole ly hib
    obtain ⟨c1, k1, c1', k1', i1, f1', a1, -, b1, -, -, -, -, -, d1, e1, e2, -⟩ := Cond.laysFinal_spec lx
    obtain ⟨c2, k2, c2', k2', i2, f2', a2, -, b2, -, -, -, -, -, d2, g1, g2, -⟩ := Cond.laysFinal_spec ly
    cases hia.symm.trans b1
    cases hib.symm.trans b2
    cases a1.symm.trans a2
    intro hs
    rw [hs] at e1
    cases e1.symm.trans g1
    exact h1 (by rw [← nx, ← ny, ← e2, ← g2])
end GAP
section JM
variable {D : va_G} {dA : Nat → ClassId} {A : Nat → Prop} {K : Nat → Nat} {p : Program} {l : Launch} {e : Env} {R : Room} {s : State} {m : MethodId} {args : Array Value} {below : List Frame} {meth : Method} {c : Code} {Q : State → Prop} {nL : Nat} {cc : ByteArray} {own : String} {pc : Nat} {lv : List (Nat × gv)} {st : List gv} {w w1 : gw} {h : Nat}
theorem gsame (C : gC D dA A K p R s m args meth c cc nL own h) {ref o n d : String} (hs : ref = o ∨ Cond.sameField ref o n d ∈ lw_all) : ∀ x, s.fieldFound? o n d = some x → s.fieldFound? ref n d = some x := by
  intro x hx
  rcases hs with e1 | e1
  · rw [e1]; exact hx
  · exact u_same (C.2.2.2.2.1 _ e1) x hx
theorem j_get (C : gC D dA A K p R s m args meth c cc nL own h) {a index ci k : Nat} {v : gv} (hF : gFL own index ci k) (d : decode cc pc = .ok (.getfield index, 3)) (hx : gF w a ci k = some v) (kk : gJ D dA A K p l e R s m args below meth c Q nL (pc + 3) lv (v :: st) w) : gJ D dA A K p l e R s m args below meth c Q nL pc lv (ga (some a) :: st) w := by
  intro H locs ls h1 h2 h3 h4 cells slots
  obtain ⟨Cn, T, N, ref, hc, hin, hk, hlink, hsame⟩ := hF
  obtain ⟨fs, hg, hv⟩ := gF_e hx
  have hP : va_P D gCl [(a, .inr (ci, fs.map gV))] H := gP1 (h1.1 a _ hg)
  have hv' : (fs.map gV)[k]? = some (gV v) := by rw [List.getElem?_map, hv]; rfl
  have hs := gsame C hsame
  rcases hlink with hl | ⟨host, hl⟩
  · exact va_get (D := D) C.1 C.2.1 C.2.2.2.2.1 hin C.2.2.2.1 C.2.2.2.2.2.1.1 hP 0 rfl hc k hk (C.2.2.2.2.1 _ hl) hs hv' d (kk H locs ls h1 h2 h3 h4 cells slots)
  · exact va_getN (D := D) C.1 C.2.1 C.2.2.2.2.1 hin C.2.2.2.1 C.2.2.2.2.2.1.1 hP 0 rfl hc k hk (gNw_use hl (C.2.2.2.2.2.1.2.1 _ hl)) hs hv' d (kk H locs ls h1 h2 h3 h4 cells slots)
theorem j_put (C : gC D dA A K p R s m args meth c cc nL own h) {a index ci k : Nat} {v : gv} (hF : gFL own index ci k) {dd dc : String} (hT : gTb ci) (hp : gPut w a ci k v = some w1) (hfk : gFk ci k dd false dc) (hfit : gFit dd v) (d : decode cc pc = .ok (.putfield index, 3)) (kk : gJ D dA A K p l e R s m args below meth c Q nL (pc + 3) lv st w1) : gJ D dA A K p l e R s m args below meth c Q nL pc lv (v :: ga (some a) :: st) w := by
  intro H locs ls h1 h2 h3 h4 cells slots
  obtain ⟨Cn, T, N, ref, hc, hin, hk, hlink, hsame⟩ := hF
  obtain ⟨hnm, ty0, hty⟩ := hT _ _ _ hc
  obtain ⟨e1, hf, -⟩ := hfk _ _ _ hc
  subst e1
  obtain ⟨ty, hd, hn, hft⟩ := hfit
  obtain ⟨fs, hg, hl, rfl⟩ := gPut_e hp
  have hat := h1.1 a _ hg
  obtain ⟨r, g1, cell, q1, q2, q3, q4⟩ := hat
  cases g1.symm.trans hc
  have hts := C.2.2.2.2.1
  have hK := C.2.2.2.2.2.1.1
  have hap := g_apart hts hin ty0 hty hnm hK hc
  obtain ⟨hS, hfc, kC, hkC, hkind⟩ := hK.1 ci _ hc
  obtain ⟨cf, kf, fi, f, hi, hsl⟩ := hS k hk
  have hlay := hts _ (hin _ (u_in_lay hk))
  unfold u_lay at hlay
  rw [if_neg (by rw [hf]; decide)] at hlay
  have hst := (u_facts hfc hkC (u_lays hts hin hk) hi).1
  have h6 := u_store hfc hkC hkind hlay hi hd hn hft
  have hwr : gWr (.inl (ci, fs)) := fun e0 => by subst e0; exact absurd hl (Nat.not_lt_zero _)
  have fin : ∀ H1 : Heap, H1[a]? = some (cell.setSlot f.slot (gV v)) → H1.size = H.size → (∀ q, q ≠ a → H1[q]? = H[q]?) → W p l e R s m args below meth c H1 (locs ++ [⟨a, f.slot⟩]) cells slots Q (F0 m (pc + 3) ls (st.map gV)) := by
    intro H1 e1 e2 e3
    have hlen : k < (fs.map gV).length := by rw [List.length_map]; exact hl
    have hat' : va_at D gCl (a, gVE dA (.inl (ci, fs.set k v))) H1 := by
      refine ⟨_, hc, t_OB.to (V := updV (vp_V (fs.map gV)) k (gV v)) ⟨_, e1, q2, q3, ?_⟩ (fun j _ => ?_)⟩
      · rw [hsl]
        exact t_set q4 hap hk (gV v)
      · show _ = vp_V ((fs.set k v).map gV) j
        rw [List.map_set]
        exact vp_updV_set hlen (gV v) j
    refine kk H1 _ ls (h1.put hg hwr hat' q1 e1 (k2_slotsz _ _ _) e2 e3 rfl) (h2.put e2 e3 (h1.2.2.2.2.2.1 a _ hg hwr)) ?_ h4 cells slots
    rw [hsum_set q1 e1 (k2_slotsz _ _ _) e2 e3]
    exact h3
  have hslot : f.slot < cell.slots.size := by rw [hsl]; exact k2_hasslot (q4 k hk)
  have hs := gsame C hsame
  rcases hlink with hlk | ⟨host, hlk⟩
  · exact W.putK C.1 C.2.1 (f := f) ⟨C.2.2.2.1, hts _ hlk, ⟨cf, kf, fi, hs _ hi⟩, hst⟩ (by rw [q2]; exact h6) q1 q3 hslot rfl rfl d fin
  · exact va_WputK C.1 C.2.1 (f := f) C.2.2.2.1 (gNw_use hlk (C.2.2.2.2.2.1.2.1 _ hlk)) (hs _ hi) hst (by rw [q2]; exact h6) q1 q3 hslot rfl rfl d fin
theorem j_putF (C : gC D dA A K p R s m args meth c cc nL own h) {a index ci k : Nat} {v : gv} (hF : gFL own index ci k) {dd dc : String} (hT : gTb ci) (hin2 : meth.name = "<init>") (hp : gPut w a ci k v = some w1) (hfk : gFk ci k dd true dc) (hdc : dc = own) (hfit : gFit dd v) (d : decode cc pc = .ok (.putfield index, 3)) (kk : gJ D dA A K p l e R s m args below meth c Q nL (pc + 3) lv st w1) : gJ D dA A K p l e R s m args below meth c Q nL pc lv (v :: ga (some a) :: st) w := by
  intro H locs ls h1 h2 h3 h4 cells slots
  obtain ⟨Cn, T, N, ref, hc, hin, hk, hlink, hsame⟩ := hF
  obtain ⟨hnm, ty0, hty⟩ := hT _ _ _ hc
  obtain ⟨e1, hf, e2⟩ := hfk _ _ _ hc
  subst e1
  have hdecl : (T k).1 = own := e2.trans hdc
  obtain ⟨ty, hd, hn, hft⟩ := hfit
  obtain ⟨fs, hg, hl, rfl⟩ := gPut_e hp
  have hat := h1.1 a _ hg
  obtain ⟨r, g1, cell, q1, q2, q3, q4⟩ := hat
  cases g1.symm.trans hc
  have hts := C.2.2.2.2.1
  have hK := C.2.2.2.2.2.1.1
  have hap := g_apart hts hin ty0 hty hnm hK hc
  obtain ⟨hS, hfc, kC, hkC, hkind⟩ := hK.1 ci _ hc
  obtain ⟨cf, kf, fi, f, hi, hsl⟩ := hS k hk
  have hlay := hts _ (hin _ (u_in_lay hk))
  unfold u_lay at hlay
  rw [if_pos hf] at hlay
  have hst := (u_facts hfc hkC (u_lays hts hin hk) hi).1
  have hcf : m.cls = cf := by
    obtain ⟨_, _, c', _, _, _, -, -, hf', -, -, -, hown2, -⟩ := Cond.laysFinal_spec hlay
    have e1 : c' = cf := by have := hi.symm.trans hf'; simp at this; exact this.1.symm
    rw [hdecl] at hown2
    rw [← e1]; exact Option.some.inj (C.2.2.2.1.symm.trans hown2)
  have h6 := u_fits hfc hkC hkind (Or.inr hlay) hi hd hn hft
  have hwr : gWr (.inl (ci, fs)) := fun e0 => by subst e0; exact absurd hl (Nat.not_lt_zero _)
  have fin : ∀ H1 : Heap, H1[a]? = some (cell.setSlot f.slot (gV v)) → H1.size = H.size → (∀ q, q ≠ a → H1[q]? = H[q]?) → W p l e R s m args below meth c H1 (locs ++ [⟨a, f.slot⟩]) cells slots Q (F0 m (pc + 3) ls (st.map gV)) := by
    intro H1 e1 e2 e3
    have hlen : k < (fs.map gV).length := by rw [List.length_map]; exact hl
    have hat' : va_at D gCl (a, gVE dA (.inl (ci, fs.set k v))) H1 := by
      refine ⟨_, hc, t_OB.to (V := updV (vp_V (fs.map gV)) k (gV v)) ⟨_, e1, q2, q3, ?_⟩ (fun j _ => ?_)⟩
      · rw [hsl]
        exact t_set q4 hap hk (gV v)
      · show _ = vp_V ((fs.set k v).map gV) j
        rw [List.map_set]
        exact vp_updV_set hlen (gV v) j
    refine kk H1 _ ls (h1.put hg hwr hat' q1 e1 (k2_slotsz _ _ _) e2 e3 rfl) (h2.put e2 e3 (h1.2.2.2.2.2.1 a _ hg hwr)) ?_ h4 cells slots
    rw [hsum_set q1 e1 (k2_slotsz _ _ _) e2 e3]
    exact h3
  have hslot : f.slot < cell.slots.size := by rw [hsl]; exact k2_hasslot (q4 k hk)
  have hs := gsame C hsame
  rcases hlink with hlk | ⟨host, hlk⟩
  · exact W.putFinK C.1 C.2.1 C.2.2.2.1 (hts _ hlk) (hs _ hi) hst hcf hin2 (by rw [q2]; exact h6) q1 q3 hslot rfl rfl d fin
  · exact va_Wputf C.1 C.2.1 C.2.2.2.1 (gNw_use hlk (C.2.2.2.2.2.1.2.1 _ hlk)) (hs _ hi) hst (Or.inr ⟨hcf, hin2⟩) q1 (by rw [q3]; exact fun h => by cases h) hslot h6.1 (by rw [q2, q3]; exact h6.2) rfl rfl d (by
      have ha : a < H.size := (Array.getElem?_eq_some_iff.mp q1).1
      exact fin _ (by simp [Array.getElem?_setIfInBounds, ha]) (by simp) (fun q hq => by simp [Array.getElem?_setIfInBounds, Ne.symm hq]))
theorem j_gets (C : gC D dA A K p R s m args meth c cc nL own h) {index i : Nat} {Cn n dd : String} (hZ : va_Z Cn n dd (.ref (K i)) A s s.heap) (hq : Cond.fieldLink own index Cn n dd ∈ lw_all) (d : decode cc pc = .ok (.getstatic index, 3)) (kk : gJ D dA A K p l e R s m args below meth c Q nL (pc + 3) lv (ga (some (w.2.2.2 i)) :: st) w) : gJ D dA A K p l e R s m args below meth c Q nL pc lv st w := by
  intro H locs ls h1 h2 h3 h4 cells slots
  have h5 := kk H locs ls h1 h2 h3 h4 cells slots
  rw [h1.2.2.2.1] at h5
  exact va_gets C.1 C.2.1 hZ h2 C.2.2.2.1 (C.2.2.2.2.1 _ hq) (fun _ hx => hx) d h5
theorem j_getsO (C : gC D dA A K p R s m args meth c cc nL own h) {index i : Nat} {Cn n dd : String} (hZ : va_Z Cn n dd (va_rf (gCo (K i))) A s s.heap) (hq : Cond.fieldLink own index Cn n dd ∈ lw_all) (d : decode cc pc = .ok (.getstatic index, 3)) (kk : gJ D dA A K p l e R s m args below meth c Q nL (pc + 3) lv (ga (gCo (w.2.2.2 i)) :: st) w) : gJ D dA A K p l e R s m args below meth c Q nL pc lv st w := by
  intro H locs ls h1 h2 h3 h4 cells slots
  have h5 := kk H locs ls h1 h2 h3 h4 cells slots
  rw [h1.2.2.2.1] at h5
  exact va_gets C.1 C.2.1 hZ h2 C.2.2.2.1 (C.2.2.2.2.1 _ hq) (fun _ hx => hx) d h5
theorem j_iald (C : gC D dA A K p R s m args meth c cc nL own h) {a : Nat} {i x : Int32} (hx : gLdI w a 0 i = some x) (d : decode cc pc = .ok (.iaload, 1)) (kk : gJ D dA A K p l e R s m args below meth c Q nL (pc + 1) lv (gi x :: st) w) : gJ D dA A K p l e R s m args below meth c Q nL pc lv (gi i :: ga (some a) :: st) w := by
  intro H locs ls h1 h2 h3 h4 cells slots
  obtain ⟨n, f, hg, hin, rfl⟩ := gLdI_e hx
  exact va_iald C.1 C.2.1 C.2.2.2.2.2.1.1 (gP1 (h1.1 a _ hg)) 0 0 rfl rfl hin d (kk H locs ls h1 h2 h3 h4 cells slots)
theorem j_bald (C : gC D dA A K p R s m args meth c cc nL own h) {a : Nat} {i x : Int32} (hx : gLdI w a 1 i = some x) (d : decode cc pc = .ok (.baload, 1)) (kk : gJ D dA A K p l e R s m args below meth c Q nL (pc + 1) lv (gi x :: st) w) : gJ D dA A K p l e R s m args below meth c Q nL pc lv (gi i :: ga (some a) :: st) w := by
  intro H locs ls h1 h2 h3 h4 cells slots
  obtain ⟨n, f, hg, hin, rfl⟩ := gLdI_e hx
  exact va_bald C.1 C.2.1 C.2.2.2.2.2.1.1 (gP1 (h1.1 a _ hg)) 0 1 rfl rfl hin d (kk H locs ls h1 h2 h3 h4 cells slots)
theorem j_aald (C : gC D dA A K p R s m args meth c cc nL own h) {a t : Nat} {i : Int32} {x : Option Nat} {Cn : String} (ht : (gTys dA)[t]? = some (dA t, .object Cn)) (hx : gLdR w a t i = some x) (d : decode cc pc = .ok (.aaload, 1)) (kk : gJ D dA A K p l e R s m args below meth c Q nL (pc + 1) lv (ga x :: st) w) : gJ D dA A K p l e R s m args below meth c Q nL pc lv (gi i :: ga (some a) :: st) w := by
  intro H locs ls h1 h2 h3 h4 cells slots
  obtain ⟨n, f, hg, hin, rfl⟩ := gLdR_e hx
  exact va_aldq C.1 C.2.1 C.2.2.2.2.2.1.1 (gP1 (h1.1 a _ hg)) 0 t rfl ht hin d (kk H locs ls h1 h2 h3 h4 cells slots)
theorem j_iast (C : gC D dA A K p R s m args meth c cc nL own h) {a : Nat} {i x : Int32} (hp : gStI w a 0 i x = some w1) (d : decode cc pc = .ok (.iastore, 1)) (kk : gJ D dA A K p l e R s m args below meth c Q nL (pc + 1) lv st w1) : gJ D dA A K p l e R s m args below meth c Q nL pc lv (gi x :: gi i :: ga (some a) :: st) w := by
  intro H locs ls h1 h2 h3 h4 cells slots
  obtain ⟨n, f, hg, hin, rfl⟩ := gStI_e hp
  have hlt : i.toNatClampNeg < n := Nat.not_le.mp fun q => hin (Or.inr q)
  have hc0 : H[a]? = some (vp_cell (dA 0) (n, .inl f)) := h1.1 a _ hg
  have hwr : gWr (.inr (0, n, .inl f)) := Nat.lt_of_le_of_lt (Nat.zero_le _) hlt
  refine W.iast C.1 C.2.1 hc0 ((C.2.2.2.2.2.1.1.2 0 _ rfl).1 n (fun j => .int (f j))) (fun q => by cases q) (by show ¬ (i < 0 ∨ (arrV _ _ _).slots.size ≤ _); rw [arrV_size]; exact hin) rfl rfl d fun H1 e1 z oq => ?_
  have e2 : (vp_cell (dA 0) (n, .inl f)).setSlot i.toNatClampNeg (.int x) = vp_cell (dA 0) (n, .inl (upd f i.toNatClampNeg x)) := by
    rw [vp_cell_i, vp_cell_i, arrV_store]
    congr 1
    funext q
    by_cases hq : q = i.toNatClampNeg
    · subst hq
      simp [updV, upd]
    · simp [updV, upd, hq]
  have hz : ((vp_cell (dA 0) (n, .inl f)).setSlot i.toNatClampNeg (.int x)).slots.size = (vp_cell (dA 0) (n, .inl f)).slots.size := k2_slotsz _ _ _
  refine kk H1 _ ls (h1.put hg hwr (show H1[a]? = some (vp_cell (dA 0) (n, .inl (upd f i.toNatClampNeg x))) by rw [e1, e2]) hc0 e1 hz z oq rfl) (h2.put z oq (h1.2.2.2.2.2.1 a _ hg hwr)) ?_ h4 cells slots
  rw [hsum_set hc0 e1 hz z oq]
  exact h3
theorem j_bast (C : gC D dA A K p R s m args meth c cc nL own h) {a : Nat} {i x : Int32} (hp : gStI w a 1 i x.toInt8.toInt32 = some w1) (d : decode cc pc = .ok (.bastore, 1)) (kk : gJ D dA A K p l e R s m args below meth c Q nL (pc + 1) lv st w1) : gJ D dA A K p l e R s m args below meth c Q nL pc lv (gi x :: gi i :: ga (some a) :: st) w := by
  intro H locs ls h1 h2 h3 h4 cells slots
  obtain ⟨n, f, hg, hin, rfl⟩ := gStI_e hp
  have hlt : i.toNatClampNeg < n := Nat.not_le.mp fun q => hin (Or.inr q)
  have hc0 : H[a]? = some (vp_cell (dA 1) (n, .inl f)) := h1.1 a _ hg
  have hwr : gWr (.inr (1, n, .inl f)) := Nat.lt_of_le_of_lt (Nat.zero_le _) hlt
  refine W.bast C.1 C.2.1 hc0 ((C.2.2.2.2.2.1.1.2 1 _ rfl).1 n (fun j => .int (f j))) (fun q => by cases q) (by show ¬ (i < 0 ∨ (arrV _ _ _).slots.size ≤ _); rw [arrV_size]; exact hin) rfl rfl d fun H1 e1 z oq => ?_
  rw [narrow_byte] at e1
  have e2 : (vp_cell (dA 1) (n, .inl f)).setSlot i.toNatClampNeg (.int x.toInt8.toInt32) = vp_cell (dA 1) (n, .inl (upd f i.toNatClampNeg x.toInt8.toInt32)) := by
    rw [vp_cell_i, vp_cell_i, arrV_store]
    congr 1
    funext q
    by_cases hq : q = i.toNatClampNeg
    · subst hq
      simp [updV, upd]
    · simp [updV, upd, hq]
  have hz : ((vp_cell (dA 1) (n, .inl f)).setSlot i.toNatClampNeg (.int x.toInt8.toInt32)).slots.size = (vp_cell (dA 1) (n, .inl f)).slots.size := k2_slotsz _ _ _
  refine kk H1 _ ls (h1.put hg hwr (show H1[a]? = some (vp_cell (dA 1) (n, .inl (upd f i.toNatClampNeg x.toInt8.toInt32))) by rw [e1, e2]) hc0 e1 hz z oq rfl) (h2.put z oq (h1.2.2.2.2.2.1 a _ hg hwr)) ?_ h4 cells slots
  rw [hsum_set hc0 e1 hz z oq]
  exact h3
/-- an object's class, for a store and a cast -/
theorem gCls_e (hK : gK D dA A K s) {H : Heap} {locs : List Loc} (h1 : gOK D dA A K w H) (h2 : va_S A s.heap H locs) {v ci : Nat} (hv : gCls w v = some ci) : ∃ (Cn : String) (cell : Cell), gNa ci = some Cn ∧ H[v]? = some cell ∧ cell.vm.isStatics = false ∧ s.vm.findClass Cn = some cell.cls := by
  unfold gCls at hv
  split at hv
  · rename_i c0 fs e0
    cases hv
    obtain ⟨r, g1, cell, q1, q2, q3, -⟩ := h1.1 v _ e0
    exact ⟨r.1, cell, gNa_cl g1, q1, by rw [q3]; rfl, by rw [q2]; exact (hK.1.1 ci r g1).2.1⟩
  · rw [h1.2.2.2.1] at hv
    split at hv
    · rename_i e0
      cases hv
      obtain ⟨cell, a1, a2, a3, -⟩ := hK.2.2.2.2.2.1.kept h2.2.1
      exact ⟨_, cell, rfl, by rw [e0]; exact a1, a2, a3⟩
    · split at hv
      · rename_i e0
        cases hv
        obtain ⟨cell, a1, a2, a3, -⟩ := hK.2.2.2.2.2.2.1.kept h2.2.1
        exact ⟨_, cell, rfl, by rw [e0]; exact a1, a2, a3⟩
      · split at hv
        · rename_i e0
          cases hv
          obtain ⟨cell, a1, a2, a3, -⟩ := hK.2.2.2.2.2.2.2.1.kept h2.2.1
          exact ⟨_, cell, rfl, by rw [e0]; exact a1, a2, a3⟩
        · cases hv
theorem j_aast (C : gC D dA A K p R s m args meth c cc nL own h) {a t : Nat} {i : Int32} {r : Option Nat} {Cn : String} (ht : (gTys dA)[t]? = some (dA t, .object Cn)) (hA : ∀ c1 Cv, gAsg t c1 = true → gNa c1 = some Cv → Cv = Cn ∨ Cond.castable Cv Cn ∈ gNw) (hp : gStR w a t i r = some w1) (d : decode cc pc = .ok (.aastore, 1)) (kk : gJ D dA A K p l e R s m args below meth c Q nL (pc + 1) lv st w1) : gJ D dA A K p l e R s m args below meth c Q nL pc lv (ga r :: gi i :: ga (some a) :: st) w := by
  intro H locs ls h1 h2 h3 h4 cells slots
  obtain ⟨n, f, hg, hin, hr, rfl⟩ := gStR_e hp
  have hlt : i.toNatClampNeg < n := Nat.not_le.mp fun q => hin (Or.inr q)
  have hn0 : ¬ i < 0 := fun q => hin (Or.inl q)
  have hc0 : H[a]? = some (vp_cell (dA t) (n, .inr (.inr (.inr (.inr f))))) := h1.1 a _ hg
  have hwr : gWr (.inr (t, n, .inr f)) := Nat.lt_of_le_of_lt (Nat.zero_le _) hlt
  have fin : ∀ H1 : Heap, H1[a]? = some ((vp_cell (dA t) (n, .inr (.inr (.inr (.inr f))))).setSlot i.toNatClampNeg (va_rf r)) → H1.size = H.size → (∀ q, q ≠ a → H1[q]? = H[q]?) → W p l e R s m args below meth c H1 (locs ++ [⟨a, i.toNatClampNeg⟩]) cells slots Q (F0 m (pc + 1) ls (st.map gV)) := by
    intro H1 e1 z oq
    have e2 : (vp_cell (dA t) (n, .inr (.inr (.inr (.inr f))))).setSlot i.toNatClampNeg (va_rf r) = vp_cell (dA t) (n, .inr (.inr (.inr (.inr (va_up f i.toNatClampNeg r))))) := by
      rw [vp_cell_q, vp_cell_q, arrV_store]
      congr 1
      funext q
      by_cases hq : q = i.toNatClampNeg
      · subst hq
        simp [updV, va_up]
      · simp [updV, va_up, hq]
    have hz : ((vp_cell (dA t) (n, .inr (.inr (.inr (.inr f))))).setSlot i.toNatClampNeg (va_rf r)).slots.size = (vp_cell (dA t) (n, .inr (.inr (.inr (.inr f))))).slots.size := k2_slotsz _ _ _
    refine kk H1 _ ls (h1.put hg hwr (show H1[a]? = some (vp_cell (dA t) (n, .inr (.inr (.inr (.inr (va_up f i.toNatClampNeg r)))))) by rw [e1, e2]) hc0 e1 hz z oq rfl) (h2.put z oq (h1.2.2.2.2.2.1 a _ hg hwr)) ?_ h4 cells slots
    rw [hsum_set hc0 e1 hz z oq]
    exact h3
  cases r with
  | none => exact va_WaastN (C := Cn) C.1 C.2.1 hc0 ((C.2.2.2.2.2.1.1.2 t _ ht).1 n (fun j => va_rf (f j))) (fun h => by cases h) (by show ¬ (i < 0 ∨ (arrV _ _ _).slots.size ≤ _); rw [arrV_size]; exact hin) rfl rfl d fin
  | some v =>
    obtain ⟨c1, g1, g2⟩ := hr v rfl
    obtain ⟨Cv, cellV, n1, n2, n3, n4⟩ := gCls_e C.2.2.2.2.2.1 h1 h2 g1
    obtain ⟨kA, comp, k1, k2, k3, -⟩ := (C.2.2.2.2.2.1.1.2 t _ ht).2
    obtain ⟨kC, hkC, -⟩ := Vm.findClass_spec n4
    obtain ⟨kE, hkE, -⟩ := Vm.findClass_spec k3
    have hasg : s.vm.assignable cellV.cls comp = true := by
      rcases hA c1 Cv g2 n1 with e0 | e0
      · subst e0
        cases n4.symm.trans k3
        exact va_asg _ _
      · obtain ⟨c0, t0, f1, f2, f3⟩ := Cond.castable_spec (va_Nw.use (A := args) rfl (C.2.2.2.2.2.1.2.1 _ e0))
        cases n4.symm.trans f1
        cases k3.symm.trans f2
        exact f3
    exact W.aast C.1 C.2.1 hc0 (fun q h => by cases h) (fun h => by cases h) k1 k2 rfl hkE ⟨hn0, by show _ < (arrV _ _ _).slots.size; rw [arrV_size]; exact hlt⟩ n2 (fun q h => by rw [h] at n3; cases n3) hkC hasg rfl rfl d fin
theorem j_alen (C : gC D dA A K p R s m args meth c cc nL own h) {a t : Nat} {x : Int32} {ty : FieldType} (ht : (gTys dA)[t]? = some (dA t, ty)) (hx : gLen w a t = some x) (d : decode cc pc = .ok (.arraylength, 1)) (kk : gJ D dA A K p l e R s m args below meth c Q nL (pc + 1) lv (gi x :: st) w) : gJ D dA A K p l e R s m args below meth c Q nL pc lv (ga (some a) :: st) w := by
  intro H locs ls h1 h2 h3 h4 cells slots
  unfold gLen at hx
  split at hx
  · rename_i t0 n y e0
    split at hx
    · rename_i e1
      subst e1
      cases hx
      rcases y with f | f
      · exact va_alen C.1 C.2.1 C.2.2.2.2.2.1.1 (gP1 (h1.1 a _ e0)) 0 t0 rfl ht rfl d (kk H locs ls h1 h2 h3 h4 cells slots)
      · exact va_alen C.1 C.2.1 C.2.2.2.2.2.1.1 (gP1 (h1.1 a _ e0)) 0 t0 rfl ht rfl d (kk H locs ls h1 h2 h3 h4 cells slots)
    · cases hx
  · cases hx
  · split at hx
    · rename_i e1
      obtain ⟨e2, e3⟩ := e1
      cases hx
      obtain ⟨cell, g1, g2, g3, g4⟩ := C.2.2.2.2.2.1.2.2.2.2.2.2.2.2.2
      rw [h1.2.2.2.1] at e2
      subst e2
      have hH : H[K 5]? = some cell := by rw [h2.2.1 _ (Array.getElem?_eq_some_iff.mp g1).1 g4]; exact g1
      exact W.alen (n := Int32.ofNat 0) C.1 C.2.1 hH g2 (by rw [g3] <;> rfl) rfl rfl d (kk H locs ls h1 h2 h3 h4 cells slots)
    · cases hx
/-- what a 'new' asks -/
def gNL (own : String) (index ci : Nat) : Prop := ∃ (Cn : String) (T : u_T) (N n : Nat) (ty : Nat → FieldType) (fs : List gv), gCl[ci]? = some (Cn, T, N) ∧ gNs[ci]? = some (n, fs) ∧ (∀ w ∈ u_ws Cn T N, w ∈ lw_all) ∧ (∀ j, j < N → parseFieldDescriptor (T j).2.2.1 = some (ty j)) ∧ Cond.classLink own index Cn ∈ lw_all ∧ Cond.instantiable Cn n ∈ lw_all ∧ Cond.initialized Cn ∈ lw_all ∧ ∀ j, j < N → defaultValue (ty j) = vp_V (fs.map gV) j
theorem j_new (C : gC D dA A K p R s m args meth c cc nL own h) {index ci q : Nat} (hF : gNL own index ci) (hp : gNew w ci = some (q, w1)) (d : decode cc pc = .ok (.new index, 3)) (kk : gJ D dA A K p l e R s m args below meth c Q nL (pc + 3) lv (ga (some q) :: st) w1) : gJ D dA A K p l e R s m args below meth c Q nL pc lv st w := by
  intro H locs ls h1 h2 h3 h4 cells slots
  obtain ⟨Cn, T, N, n, ty, fs, hc, hns, hin, hty, q1, q2, q3, hfs⟩ := hF
  unfold gNew at hp
  rw [hns] at hp
  dsimp only at hp
  split at hp
  · rename_i hb
    cases hp
    obtain ⟨b1, b2⟩ := hb
    have hts := C.2.2.2.2.1
    have hKn := C.2.2.2.2.2.1.1.1 ci _ hc
    have hA := C.2.2.2.2.2.2.1
    have k0 := C.2.2.2.2.2.2.2.1
    have k1 := C.2.2.2.2.2.2.2.2.1
    have hsz := h1.2.1
    have hsl := h1.2.2.1
    have hk := h1.2.2.2.1
    have hs := h2.1
    rw [← hsz, hk] at b1
    rw [← hsl, hk] at b2
    refine gW_sharp h3 (W.newc C.1 C.2.1 C.2.2.2.1 (hts _ q1) (hts _ q2) (hts _ q3) rfl d (by omega) (by omega) fun cC kC f1 f2 f3 f4 => ?_)
    have e1 : (H.push (blank cC kC))[H.size]? = some (blank cC kC) := by rw [Array.getElem?_push_size]
    have hcC : cC = D.1 ci := Option.some.inj (f1.symm.trans hKn.2.1)
    subst hcC
    have hz : (blank (D.1 ci) kC).slots.size = n := by simp [blank, f4]
    have hat : va_at D gCl (H.size, gVE dA (.inl (ci, fs))) (H.push (blank (D.1 ci) kC)) := ⟨_, hc, (u_born ty hts hin hKn f2 e1 hty).to hfs⟩
    have hok := h1.push hat hz (by rw [← hsz, hk]; exact b1) (by rw [← hsl, hk]; exact b2) (by first | rfl | (rw [← hc1]) | (unfold vp_cell; split <;> rfl) | (cases y with | mk n9 z9 => rcases z9 with z | z | z | z | z <;> rfl))
    have hS : va_S A s.heap (H.push (blank (D.1 ci) kC)) locs := ⟨by rw [Array.size_push]; omega, fun x x1 x2 => (by rw [Array.getElem?_push, if_neg (by omega)]; exact h2.2.1 x x1 x2), h2.2.2⟩
    have hm : hsum s.heap ≤ hsum (H.push (blank (D.1 ci) kC)) := by rw [hsum_push]; omega
    have := kk _ locs ls hok hS hm h4 (H.size - s.heap.size + 1) (hsum H - hsum s.heap + n)
    rw [← hsz] at this
    exact this
  · cases hp
theorem j_newi (C : gC D dA A K p R s m args meth c cc nL own h) {t q : Nat} {n : Int32} {atype : ArrayType} (ht : (gTys dA)[t]? = some (dA t, newarray.typeOf atype)) (hcb : componentBytes (newarray.typeOf atype) ≤ 4) (hd0 : defaultValue (newarray.typeOf atype) = .int 0) (hprim : va_RA s (dA t) (newarray.typeOf atype) = (s.vm.findClass ("[" ++ (newarray.typeOf atype).toString) = some (dA t))) (hq : Cond.arrayClass (newarray.typeOf atype) ∈ lw_all) (hp : gNewI w t n = some (q, w1)) (d : decode cc pc = .ok (.newarray atype, 2)) (kk : gJ D dA A K p l e R s m args below meth c Q nL (pc + 2) lv (ga (some q) :: st) w1) : gJ D dA A K p l e R s m args below meth c Q nL pc lv (gi n :: st) w := by
  intro H locs ls h1 h2 h3 h4 cells slots
  unfold gNewI at hp
  split at hp
  · rename_i hb
    cases hp
    obtain ⟨b0, b9, b1, b2⟩ := hb
    have k0 := C.2.2.2.2.2.2.2.1
    have k1 := C.2.2.2.2.2.2.2.2.1
    have hsz := h1.2.1
    have hsl := h1.2.2.1
    have hk := h1.2.2.2.1
    have hs := h2.1
    rw [← hsz, hk] at b1
    rw [← hsl, hk] at b2
    have hby : n.toNatClampNeg * componentBytes (newarray.typeOf atype) ≤ 536870912 := Nat.le_trans (Nat.mul_le_mul_left _ hcb) b9
    refine gW_sharp h3 (W.newa C.1 C.2.1 (C.2.2.2.2.1 _ hq) rfl d rfl b0 hby (by omega) (by omega) fun cA kA comp f1 f2 f3 => ?_)
    have hra := (C.2.2.2.2.2.1.1.2 t _ ht).2
    rw [hprim] at hra
    have hcA : cA = dA t := Option.some.inj (f1.symm.trans hra)
    subst hcA
    generalize hc1 : ({ cls := dA t, slots := Array.replicate n.toNatClampNeg (defaultValue (newarray.typeOf atype)), vm := .none } : Cell) = c1
    have hc2 : c1 = arrV (dA t) n.toNatClampNeg (fun _ => .int 0) := by rw [← hc1, hd0, ← arrV_new]
    have hz : c1.slots.size = n.toNatClampNeg := by rw [hc2, arrV_size]
    have hat : va_at D gCl (H.size, gVE dA (.inr (t, n.toNatClampNeg, .inl (fun _ => 0)))) (H.push c1) := by
      show (H.push c1)[H.size]? = some (vp_cell _ _)
      rw [Array.getElem?_push_size, hc2]
      rfl
    have hok := h1.push hat hz (by rw [← hsz, hk]; exact b1) (by rw [← hsl, hk]; exact b2) (by first | rfl | (rw [← hc1]) | (unfold vp_cell; split <;> rfl) | (cases y with | mk n9 z9 => rcases z9 with z | z | z | z | z <;> rfl))
    have hS : va_S A s.heap (H.push c1) locs := ⟨by rw [Array.size_push]; omega, fun x x1 x2 => (by rw [Array.getElem?_push, if_neg (by omega)]; exact h2.2.1 x x1 x2), h2.2.2⟩
    have hm : hsum s.heap ≤ hsum (H.push c1) := by rw [hsum_push]; omega
    have := kk _ locs ls hok hS hm h4 (H.size - s.heap.size + 1) (hsum H - hsum s.heap + n.toNatClampNeg)
    rw [← hsz] at this
    exact this
  · cases hp
theorem j_newr (C : gC D dA A K p R s m args meth c cc nL own h) {t q index : Nat} {n : Int32} {Cn : String} (ht : (gTys dA)[t]? = some (dA t, .object Cn)) (hao : Cn ∈ gAO) (hq : Cond.classLink own index Cn ∈ lw_all) (hp : gNewR w t n = some (q, w1)) (d : decode cc pc = .ok (.anewarray index, 3)) (kk : gJ D dA A K p l e R s m args below meth c Q nL (pc + 3) lv (ga (some q) :: st) w1) : gJ D dA A K p l e R s m args below meth c Q nL pc lv (gi n :: st) w := by
  intro H locs ls h1 h2 h3 h4 cells slots
  unfold gNewR at hp
  split at hp
  · rename_i hb
    cases hp
    obtain ⟨b0, b9, b1, b2⟩ := hb
    have k0 := C.2.2.2.2.2.2.2.1
    have k1 := C.2.2.2.2.2.2.2.2.1
    have hsz := h1.2.1
    have hsl := h1.2.2.1
    have hk := h1.2.2.2.1
    have hs := h2.1
    rw [← hsz, hk] at b1
    rw [← hsl, hk] at b2
    refine gW_sharp h3 (W.anew C.1 C.2.1 C.2.2.2.1 (C.2.2.2.2.1 _ hq) (va_AO.use (C.2.2.2.2.2.1.2.2.1 _ hao)) rfl d rfl b0 b9 (by omega) (by omega) fun cA kA comp f1 f2 f3 f4 => ?_)
    obtain ⟨kA', comp', g1, g2, g3, g4⟩ := (C.2.2.2.2.2.1.1.2 t _ ht).2
    have hcA : cA = dA t := Option.some.inj (f1.symm.trans g4)
    subst hcA
    generalize hc1 : ({ cls := dA t, slots := Array.replicate n.toNatClampNeg .null, vm := .none } : Cell) = c1
    have hc2 : c1 = arrV (dA t) n.toNatClampNeg (fun _ => .null) := by rw [← hc1, ← arrV_new]
    have hz : c1.slots.size = n.toNatClampNeg := by rw [hc2, arrV_size]
    have hat : va_at D gCl (H.size, gVE dA (.inr (t, n.toNatClampNeg, .inr (fun _ => none)))) (H.push c1) := by
      show (H.push c1)[H.size]? = some (vp_cell _ _)
      rw [Array.getElem?_push_size, hc2]
      rfl
    have hok := h1.push hat hz (by rw [← hsz, hk]; exact b1) (by rw [← hsl, hk]; exact b2) (by first | rfl | (rw [← hc1]) | (unfold vp_cell; split <;> rfl) | (cases y with | mk n9 z9 => rcases z9 with z | z | z | z | z <;> rfl))
    have hS : va_S A s.heap (H.push c1) locs := ⟨by rw [Array.size_push]; omega, fun x x1 x2 => (by rw [Array.getElem?_push, if_neg (by omega)]; exact h2.2.1 x x1 x2), h2.2.2⟩
    have hm : hsum s.heap ≤ hsum (H.push c1) := by rw [hsum_push]; omega
    have := kk _ locs ls hok hS hm h4 (H.size - s.heap.size + 1) (hsum H - hsum s.heap + n.toNatClampNeg)
    rw [← hsz] at this
    exact this
  · cases hp
theorem gV_fit {t : Nat} {ty : FieldType} (ht : (gTys dA)[t]? = some (dA t, ty)) {n : Nat} {x : (Nat → Int32) ⊕ (Nat → Option Nat)} (hx : (ty.isReference = true ∧ ∃ g, x = .inr g) ∨ (ty = .int ∧ ∃ f, x = .inl f)) : ∀ (i : Nat) (v : Value) (y : vp_A), gVE dA (.inr (t, n, x)) = .inl (dA t, y) → (vp_cell (dA t) y).slots[i]? = some v → fits ty v = true := by
  intro i v y e0 hv
  rcases hx with ⟨h1, g, rfl⟩ | ⟨rfl, f, rfl⟩
  · cases e0
    refine va_fit (cA := dA t) (n := n) (F := fun j => va_rf (g j)) (fun j _ => ?_) i v hv
    cases g j <;> cases ty <;> first | rfl | cases h1
  · cases e0
    exact va_fit (cA := dA t) (n := n) (F := fun j => .int (f j)) (fun j _ => rfl) i v hv
theorem j_clone (C : gC D dA A K p R s m args meth c cc nL own h) {index a t q : Nat} {ad : String} {ty : FieldType} (ht : (gTys dA)[t]? = some (dA t, ty)) (hnm : s.vm.findClass ad = some (dA t)) (hty : (t < 2 ∧ ty = .int) ∨ (2 ≤ t ∧ ty.isReference = true))
    (qlink : Cond.methodLink own index ⟨ad, "clone", "()Ljava/lang/Object;"⟩ ∈ lw_all) (qsame : Cond.sameMethod ad "java/lang/Object" "clone" "()Ljava/lang/Object;" ∈ lw_all) (qnat : Cond.native ⟨"java/lang/Object", "clone", "()Ljava/lang/Object;"⟩ ∈ lw_all) (qinst : Cond.instanceMethod ⟨"java/lang/Object", "clone", "()Ljava/lang/Object;"⟩ ∈ lw_all) (qsel : Cond.selects ad ⟨ad, "clone", "()Ljava/lang/Object;"⟩ ⟨"java/lang/Object", "clone", "()Ljava/lang/Object;"⟩ ∈ lw_all) (qcl : Cond.castable ad "java/lang/Cloneable" ∈ gNw)
    (hp : gCln w a t = some (q, w1)) (hr : st.length ≤ 8) (hh : 1 ≤ h) (d : decode cc pc = .ok (.invokevirtual index, 3)) (kk : gJ D dA A K p l e R s m args below meth c Q nL (pc + 3) lv (ga (some q) :: st) w1) : gJ D dA A K p l e R s m args below meth c Q nL pc lv (ga (some a) :: st) w := by
  intro H locs ls h1 h2 h3 h4 cells slots
  unfold gCln at hp
  split at hp
  · rename_i t0 n x e0
    split at hp
    · rename_i hb
      cases hp
      obtain ⟨rfl, b9, b1, b2⟩ := hb
      have hxx : (ty.isReference = true ∧ ∃ g, x = .inr g) ∨ (ty = .int ∧ ∃ f, x = .inl f) := by
        rcases x with f | g
        · have b9 : t0 < 2 := of_decide_eq_true b9
          rcases hty with ⟨-, e1⟩ | ⟨e1, -⟩
          · exact Or.inr ⟨e1, _, rfl⟩
          · omega
        · have b9 : 2 ≤ t0 := of_decide_eq_true b9
          rcases hty with ⟨e1, -⟩ | ⟨-, e1⟩
          · omega
          · exact Or.inl ⟨e1, _, rfl⟩
      have hts := C.2.2.2.2.1
      have k0 := C.2.2.2.2.2.2.2.1
      have k1 := C.2.2.2.2.2.2.2.2.1
      have kf := C.2.2.2.2.2.2.2.2.2.2.1
      have kl := C.2.2.2.2.2.2.2.2.2.2.2
      have hsz := h1.2.1
      have hsl := h1.2.2.1
      have hk := h1.2.2.2.1
      have hs := h2.1
      rw [← hsz, hk] at b1
      rw [← hsl, hk] at b2
      obtain ⟨y, hy⟩ : ∃ y : vp_A, gVE dA (.inr (t0, n, x)) = .inl (dA t0, y) := by
        rcases x with f | g
        · exact ⟨_, rfl⟩
        · exact ⟨_, rfl⟩
      have hyn : y.1 = n := by
        rcases x with f | g
        · cases hy; rfl
        · cases hy; rfl
      have hcellH : H[a]? = some (vp_cell (dA t0) y) := by
        have := h1.1 a _ e0
        rw [hy] at this
        exact this
      have hsz1 : (vp_cell (dA t0) y).slots.size = y.1 := by
        obtain ⟨n, f | f | f | f | f⟩ := y <;> exact arrV_size _ _ _
      have hvm0 : (vp_cell (dA t0) y).vm = .none := by
        obtain ⟨n, f | f | f | f | f⟩ := y <;> rfl
      have hcl0 : (vp_cell (dA t0) y).cls = dA t0 := by
        obtain ⟨n, f | f | f | f | f⟩ := y <;> rfl
      have hcellE : ({ cls := (vp_cell (dA t0) y).cls, slots := (vp_cell (dA t0) y).slots } : Cell) = vp_cell (dA t0) y := by
        obtain ⟨n, f | f | f | f | f⟩ := y <;> rfl
      obtain ⟨c0, t0', f1, f2, f3⟩ := Cond.castable_spec (va_Nw.use (A := args) rfl (C.2.2.2.2.2.1.2.1 _ qcl))
      cases hnm.symm.trans f1
      refine gW_sharp h3 ?_
      intro T hT X
      have hcellT : T.heap[a]? = some (vp_cell (dA t0) y) := by rw [hT]; exact hcellH
      obtain ⟨-, kA, hkA, comp, hkind⟩ := State.isArrayOf_alike X.warmed.alike ((C.2.2.2.2.2.1.1.2 t0 _ ht).1 0 (fun _ => .null))
      obtain ⟨-, kS, hkS, compS, hkindS⟩ := (C.2.2.2.2.2.1.1.2 t0 _ ht).1 0 (fun _ => .null)
      have hroom : ((st.map gV).map fun v => v.category).sum + 14 ≤ R.locals := by
        rw [gV_sum]
        omega
      obtain ⟨vm', X', stp⟩ := X.cloneArray C.1 C.2.2.2.1 (hts _ qlink) (hts _ qsame) (hts _ qnat) (hts _ qinst) (hts _ qsel) (a := a) (cell := vp_cell (dA t0) y) hcellT (fun k h => by rw [hvm0] at h; cases h) (by rw [hvm0]; exact fun h => by cases h) (by rw [hcl0]; exact hnm) f2 (by rw [hcl0]; exact f3)
        (fun i v hv => by
          rw [hcl0]
          have hk' : T.vm.classes[dA t0]? = some kA := hkA
          have := gV_fit ht (n := n) hxx i v y hy hv
          simpa [State.fitsSlot, State.slotType?, hk', hkind] using this)
        (g := F0 m pc ls (.ref a :: st.map gV)) rfl (by rw [C.2.2.1]; exact h4.1) rfl (by rw [C.2.1]; exact d) (by omega) (by show 2 * 0 + _ + 14 ≤ _; omega) (by omega) (by rw [hsz1, hyn]; omega) (hloader := by rw [hcl0]; exact Vm.clonesLoader_of_array hkS hkindS)
      rw [hcellE, hsz1, hyn] at X'
      have hz : (vp_cell (dA t0) y).slots.size = n := by rw [hsz1, hyn]
      have hat : va_at D gCl (H.size, gVE dA (.inr (t0, n, x))) (H.push (vp_cell (dA t0) y)) := by
        rw [hy]
        show (H.push (vp_cell (dA t0) y))[H.size]? = some (vp_cell _ _)
        rw [Array.getElem?_push_size]
      have hok := h1.push hat hz (by rw [← hsz, hk]; exact b1) (by rw [← hsl, hk]; exact b2) (by first | rfl | (rw [← hc1]) | (unfold vp_cell; split <;> rfl) | (cases y with | mk n9 z9 => rcases z9 with z | z | z | z | z <;> rfl))
      have hS : va_S A s.heap (H.push (vp_cell (dA t0) y)) locs := ⟨by rw [Array.size_push]; omega, fun x x1 x2 => (by rw [Array.getElem?_push, if_neg (by omega)]; exact h2.2.1 x x1 x2), h2.2.2⟩
      have hm : hsum s.heap ≤ hsum (H.push (vp_cell (dA t0) y)) := by rw [hsum_push]; omega
      have hW := kk _ locs ls hok hS hm h4 (H.size - s.heap.size + 1) (hsum H - hsum s.heap + n)
      obtain ⟨t, b3, b4⟩ := hW ((T.setVm vm').pushCell (vp_cell (dA t0) y)) (by rw [← hT]; rfl) X'
      refine ⟨t, stp t ?_, b4⟩
      rw [hcellE, hT]
      rw [← hsz] at b3
      exact b3
    · cases hp
  · cases hp
theorem j_castR (C : gC D dA A K p R s m args meth c cc nL own h) {index : Nat} {tg : List Nat} {nm : String} {r r1 : Option Nat} (hq : Cond.classLink own index nm ∈ lw_all) (hA : ∀ ci Cv, ci ∈ tg → gNa ci = some Cv → Cv = nm ∨ Cond.castable Cv nm ∈ gNw) (hp : gCk w tg r = some r1) (d : decode cc pc = .ok (.checkcast index, 3)) (kk : gJ D dA A K p l e R s m args below meth c Q nL (pc + 3) lv (ga r1 :: st) w) : gJ D dA A K p l e R s m args below meth c Q nL pc lv (ga r :: st) w := by
  intro H locs ls h1 h2 h3 h4 cells slots
  unfold gCk at hp
  split at hp
  · cases hp
    exact lv_castN C.1 C.2.1 d (kk H locs ls h1 h2 h3 h4 cells slots)
  · rename_i a
    split at hp
    · rename_i c1 g1
      split at hp
      · rename_i hm
        cases hp
        obtain ⟨Cv, cellV, n1, n2, n3, n4⟩ := gCls_e C.2.2.2.2.2.1 h1 h2 g1
        have hh : ∃ t0, s.vm.findClass nm = some t0 ∧ s.vm.assignable cellV.cls t0 = true := by
          rcases hA c1 Cv (List.contains_iff_mem.mp hm) n1 with e0 | e0
          · subst e0
            exact ⟨_, n4, va_asg _ _⟩
          · obtain ⟨c0, t0, f1, f2, f3⟩ := Cond.castable_spec (va_Nw.use (A := args) rfl (C.2.2.2.2.2.1.2.1 _ e0))
            cases n4.symm.trans f1
            exact ⟨t0, f2, f3⟩
        obtain ⟨t0, f2, f3⟩ := hh
        intro T hT X
        obtain ⟨vm', X', stp⟩ := X.checkcastYes C.1 C.2.2.2.1 (C.2.2.2.2.1 _ hq) (by rw [hT]; exact n2) n3 f2 f3 (g := F0 m pc ls (.ref a :: st.map gV)) rfl rfl (by rw [C.2.1]; exact d)
        obtain ⟨t, a1, b1⟩ := kk H locs ls h1 h2 h3 h4 cells slots (T.setVm vm') hT X'
        exact ⟨t, stp t a1, b1⟩
      · cases hp
    · cases hp
theorem j_castA (C : gC D dA A K p R s m args meth c cc nL own h) {index t : Nat} {nm : String} {r r1 : Option Nat} (hq : Cond.classLink own index nm ∈ lw_all) (hnm : s.vm.findClass nm = some (dA t)) (hp : gCkA w t r = some r1) (d : decode cc pc = .ok (.checkcast index, 3)) (kk : gJ D dA A K p l e R s m args below meth c Q nL (pc + 3) lv (ga r1 :: st) w) : gJ D dA A K p l e R s m args below meth c Q nL pc lv (ga r :: st) w := by
  intro H locs ls h1 h2 h3 h4 cells slots
  unfold gCkA at hp
  split at hp
  · cases hp
    exact lv_castN C.1 C.2.1 d (kk H locs ls h1 h2 h3 h4 cells slots)
  · rename_i a
    split at hp
    · rename_i t0 n x e0
      split at hp
      · rename_i e1
        subst e1
        cases hp
        have h9 := kk H locs ls h1 h2 h3 h4 cells slots
        rcases x with f | g
        · exact va_castA C.1 C.2.1 C.2.2.2.1 (C.2.2.2.2.1 _ hq) (gP1 (D := D) (cl := gCl) (h1.1 a _ e0)) 0 rfl hnm d h9
        · exact va_castA C.1 C.2.1 C.2.2.2.1 (C.2.2.2.2.1 _ hq) (gP1 (D := D) (cl := gCl) (h1.1 a _ e0)) 0 rfl hnm d h9
      · cases hp
    · cases hp
theorem j_inst (C : gC D dA A K p R s m args meth c cc nL own h) {index : Nat} {tg nt : List Nat} {nm : String} {r : Option Nat} {x : Int32} (hq : Cond.classLink own index nm ∈ lw_all) (hA : ∀ ci Cv, ci ∈ tg → gNa ci = some Cv → Cv = nm ∨ Cond.castable Cv nm ∈ gNw) (hN : ∀ ci Cv, ci ∈ nt → gNa ci = some Cv → (Cv, nm) ∈ gNc) (hp : gIs w tg nt r = some x) (d : decode cc pc = .ok (.instanceof index, 3)) (kk : gJ D dA A K p l e R s m args below meth c Q nL (pc + 3) lv (gi x :: st) w) : gJ D dA A K p l e R s m args below meth c Q nL pc lv (ga r :: st) w := by
  intro H locs ls h1 h2 h3 h4 cells slots
  unfold gIs at hp
  split at hp
  · cases hp
    exact lv_instN C.1 C.2.1 d (kk H locs ls h1 h2 h3 h4 cells slots)
  · rename_i a
    split at hp
    · rename_i c1 g1
      obtain ⟨Cv, cellV, n1, n2, n3, n4⟩ := gCls_e C.2.2.2.2.2.1 h1 h2 g1
      split at hp
      · rename_i hm
        cases hp
        have hh : ∃ t0, s.vm.findClass nm = some t0 ∧ s.vm.assignable cellV.cls t0 = true := by
          rcases hA c1 Cv (List.contains_iff_mem.mp hm) n1 with e0 | e0
          · subst e0
            exact ⟨_, n4, va_asg _ _⟩
          · obtain ⟨c0, t0, f1, f2, f3⟩ := Cond.castable_spec (va_Nw.use (A := args) rfl (C.2.2.2.2.2.1.2.1 _ e0))
            cases n4.symm.trans f1
            exact ⟨t0, f2, f3⟩
        obtain ⟨t0, f2, f3⟩ := hh
        intro T hT X
        obtain ⟨vm', X', stp⟩ := X.instanceofYes C.1 C.2.2.2.1 (C.2.2.2.2.1 _ hq) (by rw [hT]; exact n2) n3 f2 f3 (g := F0 m pc ls (.ref a :: st.map gV)) rfl rfl (by rw [C.2.1]; exact d)
        obtain ⟨t, a1, b1⟩ := kk H locs ls h1 h2 h3 h4 cells slots (T.setVm vm') hT X'
        exact ⟨t, stp t a1, b1⟩
      · split at hp
        · rename_i hm
          cases hp
          have hz := C.2.2.2.2.2.1.2.2.2.1 _ (hN c1 Cv (List.contains_iff_mem.mp hm) n1)
          exact va_instNo C.1 C.2.1 C.2.2.2.1 (C.2.2.2.2.1 _ hq) hz ⟨cellV, n2, n3, n4⟩ d (kk H locs ls h1 h2 h3 h4 cells slots)
        · cases hp
    · cases hp
end JM
