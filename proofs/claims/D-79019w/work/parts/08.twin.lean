/-! THE REFERENCE's WORLD: its object and its eight rows at the addresses ad 0 .. ad 8; its state as rows of ints (row 0: its fields by their places) -/
abbrev TS : Type := Nat → Nat → Int32
def tLen (r : Nat) : Nat := match r with
  | 1 => 9792
  | 2 => 9792
  | 3 => 68
  | 4 => 68
  | 5 => 7593
  | 6 => 7593
  | 7 => 7593
  | 8 => 80
  | _ => 0
def twFs (ad : Nat → Nat) (σ : TS) : List gv := [ga (some (ad 1)), ga (some (ad 2)), ga (some (ad 3)), ga (some (ad 4)), ga (some (ad 5)), ga (some (ad 6)), ga (some (ad 7)), gi (σ 0 7), ga (some (ad 8)), gi (σ 0 9), gi (σ 0 10), gi (σ 0 11), gi (σ 0 12), gi (σ 0 13), gi (σ 0 14), gi (σ 0 15), gi (σ 0 16), gi (σ 0 17), gi (σ 0 18), gi (σ 0 19), gi (σ 0 20)]
def twCell (ad : Nat → Nat) (σ : TS) (i : Nat) : gE := if i = 0 then .inl (2, twFs ad σ) else .inr (0, tLen i, .inl (σ i))
def tIdx (ad : Nat → Nat) (a : Nat) : Option Nat := (List.range 9).find? (fun i => decide (ad i = a))
def twOf (wb : gw) (ad : Nat → Nat) (σ : TS) : gw := (fun a => match tIdx ad a with
  | some i => some (twCell ad σ i)
  | none => wb.1 a, wb.2)
def tInj (ad : Nat → Nat) : Prop := ∀ i j, i < 9 → j < 9 → ad i = ad j → i = j
theorem tIdx_at {ad : Nat → Nat} (h : tInj ad) {i : Nat} (hi : i < 9) : tIdx ad (ad i) = some i := by
  unfold tIdx
  cases e : (List.range 9).find? (fun j => decide (ad j = ad i)) with
  | none =>
    have := List.find?_eq_none.mp e i (List.mem_range.mpr hi)
    simp at this
  | some j =>
    have h1 := List.find?_some e
    have h2 := List.mem_range.mp (List.mem_of_find?_eq_some e)
    rw [h j i h2 hi (of_decide_eq_true h1)]
theorem tIdx_some {ad : Nat → Nat} {a i : Nat} (h : tIdx ad a = some i) : i < 9 ∧ ad i = a := by
  unfold tIdx at h
  have h1 := List.find?_some h
  exact ⟨List.mem_range.mp (List.mem_of_find?_eq_some h), of_decide_eq_true h1⟩
theorem twOf_at {wb : gw} {ad : Nat → Nat} {σ : TS} (h : tInj ad) {i : Nat} (hi : i < 9) : (twOf wb ad σ).1 (ad i) = some (twCell ad σ i) := by
  show (match tIdx ad (ad i) with | some i => some (twCell ad σ i) | none => wb.1 (ad i)) = _
  rw [tIdx_at h hi]
def tPut (σ : TS) (k : Nat) (x : Int32) : TS := fun r j => if r = 0 ∧ j = k then x else σ r j
def tUpd (σ : TS) (r j : Nat) (x : Int32) : TS := fun r' j' => if r' = r ∧ j' = j then x else σ r' j'
def tLd (σ : TS) (r : Nat) (i : Int32) : Option Int32 := (gIx i (tLen r)).map (σ r)
def tSt (σ : TS) (r : Nat) (i x : Int32) : Option TS := (gIx i (tLen r)).map fun j => tUpd σ r j x
theorem tLen_lt {r n : Nat} (h : n < tLen r) : 1 ≤ r ∧ r < 9 := by
  unfold tLen at h
  split at h <;> omega
theorem tw_up {wb : gw} {ad : Nat → Nat} {σ τ : TS} (h : tInj ad) {i : Nat} (hi : i < 9) {e : gE} (he : twCell ad τ i = e) (ho : ∀ j, j < 9 → j ≠ i → twCell ad τ j = twCell ad σ j) : ((va_up (twOf wb ad σ).1 (ad i) (some e), (twOf wb ad σ).2) : gw) = twOf wb ad τ := by
  refine Prod.ext (funext fun a => ?_) rfl
  show va_up (twOf wb ad σ).1 (ad i) (some e) a = (match tIdx ad a with | some i => some (twCell ad τ i) | none => wb.1 a)
  by_cases ha : a = ad i
  · subst ha
    rw [va_up_self, tIdx_at h hi]
    show some e = some (twCell ad τ i)
    rw [he]
  · rw [va_up_ne _ _ ha]
    show (match tIdx ad a with | some i => some (twCell ad σ i) | none => wb.1 a) = _
    cases ht : tIdx ad a with
    | none => rfl
    | some j =>
      obtain ⟨h1, h2⟩ := tIdx_some ht
      show some (twCell ad σ j) = some (twCell ad τ j)
      rw [ho j h1 (fun q => ha (by rw [← h2, q]))]
theorem tw_F {wb : gw} {ad : Nat → Nat} {σ : TS} (h : tInj ad) {k : Nat} {v : gv} (hv : (twFs ad σ)[k]? = some v) : gF (twOf wb ad σ) (ad 0) 2 k = some v := by
  unfold gF
  rw [twOf_at h (by decide)]
  exact hv
theorem tw_put {wb : gw} {ad : Nat → Nat} {σ τ : TS} (h : tInj ad) {k : Nat} {x : Int32} (e : τ = tPut σ k x) (hk : (twFs ad σ).set k (gi x) = twFs ad (tPut σ k x)) (hl : k < 21) : gPut (twOf wb ad σ) (ad 0) 2 k (gi x) = some (twOf wb ad τ) := by
  subst e
  unfold gPut
  rw [twOf_at h (by decide)]
  show (if 2 = 2 ∧ k < (twFs ad σ).length then _ else none) = _
  rw [if_pos ⟨rfl, hl⟩, hk]
  congr 1
  refine tw_up h (by decide) rfl (fun j hj hn => ?_)
  unfold twCell
  rw [if_neg hn, if_neg hn]
  congr 4
  funext q
  unfold tPut
  rw [if_neg (fun z => hn z.1)]
theorem tw_ld {wb : gw} {ad : Nat → Nat} {σ : TS} (h : tInj ad) {r : Nat} {i x : Int32} (e : tLd σ r i = some x) : gLdI (twOf wb ad σ) (ad r) 0 i = some x := by
  unfold tLd at e
  obtain ⟨j, h1, h2⟩ := Option.map_eq_some_iff.mp e
  obtain ⟨-, -, h3⟩ := gIx_e h1
  obtain ⟨h4, h5⟩ := tLen_lt h3
  unfold gLdI gIA
  rw [twOf_at h h5]
  unfold twCell
  rw [if_neg (by omega)]
  show (gIx i (tLen r)).map (σ r) = _
  rw [h1]
  exact congrArg some h2
theorem tw_st {wb : gw} {ad : Nat → Nat} {σ τ : TS} (h : tInj ad) {r : Nat} {i x : Int32} (e : tSt σ r i x = some τ) : gStI (twOf wb ad σ) (ad r) 0 i x = some (twOf wb ad τ) := by
  unfold tSt at e
  obtain ⟨j, h1, h2⟩ := Option.map_eq_some_iff.mp e
  obtain ⟨-, -, h3⟩ := gIx_e h1
  obtain ⟨h4, h5⟩ := tLen_lt h3
  unfold gStI gIA
  rw [twOf_at h h5]
  have hc : twCell ad σ r = .inr (0, tLen r, .inl (σ r)) := by unfold twCell; rw [if_neg (by omega)]
  rw [hc]
  show (gIx i (tLen r)).map _ = _
  rw [h1]
  refine congrArg some ?_
  subst h2
  refine tw_up h h5 ?_ (fun q hq hn => ?_)
  · unfold twCell
    rw [if_neg (by omega)]
    congr 4
    funext q
    unfold tUpd upd
    by_cases hq : q = j
    · rw [if_pos ⟨rfl, hq⟩, if_pos hq]
    · rw [if_neg (fun z => hq z.2), if_neg hq]
  · unfold twCell
    by_cases h0 : q = 0
    · rw [if_pos h0, if_pos h0]
      congr 2
      unfold twFs tUpd
      simp only [show ¬ (0 = r) by omega, false_and, if_false]
    · rw [if_neg h0, if_neg h0]
      congr 4
      funext z
      unfold tUpd
      rw [if_neg (fun y => hn y.1)]
theorem tw_cls {wb : gw} {ad : Nat → Nat} {σ : TS} (h : tInj ad) : gCls (twOf wb ad σ) (ad 0) = some 2 := by
  unfold gCls
  rw [twOf_at h (by decide)]
  rfl
