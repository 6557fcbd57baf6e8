set_option maxRecDepth 100000
/-! THE PURE PART: no machine in sight any more. Words for running f_.. and t_.. -/
theorem pu_B1 {α β : Type} (v : α) (k : α → Option β) : gB1 (some v) k = k v := id rfl
theorem pu_B2 {α β γ : Type} (a : α) (b : β) (k : α → β → Option γ) : gB2 (some (a, b)) k = k a b := id rfl
theorem pu_Bd {α β : Type} (x : α) (k : α → β) : gBd x k = k x := id rfl
theorem pu_Nn {β : Type} (a : β) (f : Nat → β) : gNl none a f = a := id rfl
theorem pu_Ns {β : Type} (a : β) (f : Nat → β) (x : Nat) : gNl (some x) a f = f x := id rfl
theorem pu_mul (a b : Nat) : nI a * nI b = nI (a * b) := (Int32.ofNat_mul a b).symm
theorem pu_sub {a b : Nat} (h : b ≤ a) : nI a - nI b = nI (a - b) := by
  obtain ⟨c, rfl⟩ := Nat.exists_eq_add_of_le h
  rw [← nI_add, Nat.add_sub_cancel_left]
  generalize nI b = x
  generalize nI c = y
  rw [Int32.add_comm, Int32.add_sub_cancel]
theorem pu_gIx {j n : Nat} (h : j < n) (hn : n < 2 ^ 31) : gIx (nI j) n = some j := by
  unfold gIx
  rw [if_neg (nI_in h hn), nI_clamp (by omega)]
/-- a cell put, a cell made -/
def hs (w : gw) (a : Nat) (e : gE) : gw := (va_up w.1 a (some e), w.2)
def hn (w : gw) (e : gE) (n : Nat) : gw := (va_up w.1 w.2.1 (some e), w.2.1 + 1, w.2.2.1 + n, w.2.2.2)
theorem hs_at (w : gw) (a : Nat) (e : gE) (b : Nat) : (hs w a e).1 b = if b = a then some e else w.1 b := rfl
theorem hs_self (w : gw) (a : Nat) (e : gE) : (hs w a e).1 a = some e := by rw [hs_at, if_pos rfl]
theorem hs_ne {w : gw} {a b : Nat} {e : gE} (h : b ≠ a) : (hs w a e).1 b = w.1 b := by rw [hs_at, if_neg h]
theorem hs_2 (w : gw) (a : Nat) (e : gE) : (hs w a e).2 = w.2 := id rfl
theorem hn_at (w : gw) (e : gE) (n b : Nat) : (hn w e n).1 b = if b = w.2.1 then some e else w.1 b := rfl
theorem hn_self (w : gw) (e : gE) (n : Nat) : (hn w e n).1 w.2.1 = some e := by rw [hn_at, if_pos rfl]
theorem hn_ne {w : gw} {b n : Nat} {e : gE} (h : b ≠ w.2.1) : (hn w e n).1 b = w.1 b := by rw [hn_at, if_neg h]
theorem hn_2 (w : gw) (e : gE) (n : Nat) : (hn w e n).2 = (w.2.1 + 1, w.2.2.1 + n, w.2.2.2) := id rfl
theorem hs_hs (w : gw) (a : Nat) (e e' : gE) : hs (hs w a e) a e' = hs w a e' := by
  unfold hs
  congr 1
  funext j
  show va_up (va_up w.1 a (some e)) a (some e') j = va_up w.1 a (some e') j
  unfold va_up
  by_cases h : j = a
  · rw [if_pos h, if_pos h]
  · rw [if_neg h, if_neg h, if_neg h]
/-- reading and writing fields and elements, out of what is known of the cell -/
theorem pu_F {w : gw} {a c : Nat} {fs : List gv} (h : w.1 a = some (.inl (c, fs))) (k : Nat) : gF w a c k = fs[k]? := by
  unfold gF
  rw [h]
  exact if_pos rfl
theorem pu_I {w : gw} {a c k : Nat} {fs : List gv} {x : Int32} (h : w.1 a = some (.inl (c, fs))) (hk : fs[k]? = some (gi x)) : gI w a c k = some x := by
  unfold gI
  rw [pu_F h, hk]
theorem pu_R {w : gw} {a c k : Nat} {fs : List gv} {r : Option Nat} (h : w.1 a = some (.inl (c, fs))) (hk : fs[k]? = some (ga r)) : gR w a c k = some r := by
  unfold gR
  rw [pu_F h, hk]
theorem pu_Put {w : gw} {a c k : Nat} {fs : List gv} (h : w.1 a = some (.inl (c, fs))) (hk : k < fs.length) (v : gv) : gPut w a c k v = some (hs w a (.inl (c, fs.set k v))) := by
  unfold gPut
  rw [h]
  exact if_pos ⟨rfl, hk⟩
theorem pu_Cls {w : gw} {a c : Nat} {fs : List gv} (h : w.1 a = some (.inl (c, fs))) : gCls w a = some c := by
  unfold gCls
  rw [h]
theorem pu_Ob {w : gw} {a c : Nat} {fs : List gv} (h : w.1 a = some (.inl (c, fs))) : gOb w a c = some () := by
  unfold gOb
  rw [pu_Cls h]
  exact if_pos rfl
theorem pu_IA {w : gw} {a t n : Nat} {f : Nat → Int32} (h : w.1 a = some (.inr (t, n, .inl f))) : gIA w a t = some (n, f) := by
  unfold gIA
  rw [h]
  exact if_pos rfl
theorem pu_RA {w : gw} {a t n : Nat} {f : Nat → Option Nat} (h : w.1 a = some (.inr (t, n, .inr f))) : gRA w a t = some (n, f) := by
  unfold gRA
  rw [h]
  exact if_pos rfl
theorem pu_LdI {w : gw} {a t n j : Nat} {f : Nat → Int32} (h : w.1 a = some (.inr (t, n, .inl f))) (hj : j < n) (hn : n < 2 ^ 31) : gLdI w a t (nI j) = some (f j) := by
  unfold gLdI
  rw [pu_IA h]
  show (gIx (nI j) n).map f = _
  rw [pu_gIx hj hn]
  rfl
theorem pu_LdR {w : gw} {a t n j : Nat} {f : Nat → Option Nat} (h : w.1 a = some (.inr (t, n, .inr f))) (hj : j < n) (hn : n < 2 ^ 31) : gLdR w a t (nI j) = some (f j) := by
  unfold gLdR
  rw [pu_RA h]
  show (gIx (nI j) n).map f = _
  rw [pu_gIx hj hn]
  rfl
theorem pu_StI {w : gw} {a t n j : Nat} {f : Nat → Int32} (h : w.1 a = some (.inr (t, n, .inl f))) (hj : j < n) (hn : n < 2 ^ 31) (x : Int32) : gStI w a t (nI j) x = some (hs w a (.inr (t, n, .inl (upd f j x)))) := by
  unfold gStI
  rw [pu_IA h]
  show (gIx (nI j) n).map _ = _
  rw [pu_gIx hj hn]
  rfl
theorem pu_StR {w : gw} {a t n j : Nat} {f : Nat → Option Nat} (h : w.1 a = some (.inr (t, n, .inr f))) (hj : j < n) (hn : n < 2 ^ 31) {r : Option Nat} (hc : gCan w t r = true) : gStR w a t (nI j) r = some (hs w a (.inr (t, n, .inr (va_up f j r)))) := by
  unfold gStR
  rw [pu_RA h]
  show (gIx (nI j) n).bind _ = _
  rw [pu_gIx hj hn]
  show (if gCan w t r = true then _ else none) = _
  rw [if_pos hc]
  rfl
theorem pu_Len {w : gw} {a t n : Nat} {x : (Nat → Int32) ⊕ (Nat → Option Nat)} (h : w.1 a = some (.inr (t, n, x))) : gLen w a t = some (nI n) := by
  unfold gLen
  rw [h]
  exact if_pos rfl
theorem pu_New {w : gw} {ci n : Nat} {fs : List gv} (h : gNs[ci]? = some (n, fs)) (h0 : w.2.1 + 1 ≤ w.2.2.2 0) (h1 : w.2.2.1 + n ≤ w.2.2.2 1) : gNew w ci = some (w.2.1, hn w (.inl (ci, fs)) n) := by
  unfold gNew
  rw [h]
  exact if_pos ⟨h0, h1⟩
theorem pu_NewI {w : gw} {t n : Nat} (hn' : n < 100000000) (h0 : w.2.1 + 1 ≤ w.2.2.2 0) (h1 : w.2.2.1 + n ≤ w.2.2.2 1) : gNewI w t (nI n) = some (w.2.1, hn w (.inr (t, n, .inl (fun _ => 0))) n) := by
  unfold gNewI
  rw [if_pos ⟨nI_pos (by omega), by rw [nI_clamp (by omega)]; omega, h0, by rw [nI_clamp (by omega)]; exact h1⟩, nI_clamp (by omega)]
  rfl
theorem pu_NewR {w : gw} {t n : Nat} (hn' : n < 100000000) (h0 : w.2.1 + 1 ≤ w.2.2.2 0) (h1 : w.2.2.1 + n ≤ w.2.2.2 1) : gNewR w t (nI n) = some (w.2.1, hn w (.inr (t, n, .inr (fun _ => none))) n) := by
  unfold gNewR
  rw [if_pos ⟨nI_pos (by omega), by rw [nI_clamp (by omega)]; omega, h0, by rw [nI_clamp (by omega)]; exact h1⟩, nI_clamp (by omega)]
  rfl
/-- the reference's state with another row 5 -/
def tS (σ : TS) (s : Nat → Int32) : TS := fun r j => if r = 5 then s j else σ r j
theorem tS_self (σ : TS) : tS σ (σ 5) = σ := by
  funext r j
  unfold tS
  by_cases h : r = 5
  · rw [if_pos h, h]
  · rw [if_neg h]
theorem tS_5 (σ : TS) (s : Nat → Int32) : tS σ s 5 = s := id rfl
theorem tS_ne (σ : TS) (s : Nat → Int32) {r : Nat} (h : r ≠ 5) : tS σ s r = σ r := by
  funext j
  unfold tS
  rw [if_neg h]
theorem tS_tS (σ : TS) (s s' : Nat → Int32) : tS (tS σ s) s' = tS σ s' := by
  funext r j
  unfold tS
  by_cases h : r = 5
  · rw [if_pos h, if_pos h]
  · rw [if_neg h, if_neg h, if_neg h]
theorem pu_ld5 {σ : TS} {s : Nat → Int32} {j : Nat} (h : j < 7593) : tLd (tS σ s) 5 (nI j) = some (s j) := by
  unfold tLd
  rw [show tLen 5 = 7593 from rfl, pu_gIx h (by decide)]
  rfl
theorem pu_st5 {σ : TS} {s : Nat → Int32} {j : Nat} (h : j < 7593) (x : Int32) : tSt (tS σ s) 5 (nI j) x = some (tS σ (upd s j x)) := by
  unfold tSt
  rw [show tLen 5 = 7593 from rfl, pu_gIx h (by decide)]
  show some (tUpd (tS σ s) 5 j x) = some _
  congr 1
  funext r q
  unfold tUpd tS upd
  by_cases h5 : r = 5
  · by_cases hq : q = j <;> simp [h5, hq]
  · simp [h5]
theorem pu_ld1 {σ : TS} {s : Nat → Int32} {j : Nat} (h : j < 9792) : tLd (tS σ s) 1 (nI j) = some (σ 1 j) := by
  unfold tLd
  rw [show tLen 1 = 9792 from rfl, pu_gIx h (by decide)]
  rfl
theorem pu_ld3 {σ : TS} {s : Nat → Int32} {j : Nat} (h : j < 68) : tLd (tS σ s) 3 (nI j) = some (σ 3 j) := by
  unfold tLd
  rw [show tLen 3 = 68 from rfl, pu_gIx h (by decide)]
  rfl
theorem upd_self (f : Nat → Int32) (k : Nat) (x : Int32) : upd f k x k = x := if_pos rfl
theorem upd_ne {f : Nat → Int32} {k j : Nat} {x : Int32} (h : j ≠ k) : upd f k x j = f j := if_neg h
theorem upd_id (f : Nat → Int32) (k : Nat) : upd f k (f k) = f := by
  funext j
  unfold upd
  by_cases h : j = k
  · rw [if_pos h, h]
  · rw [if_neg h]
/-- the reference's notes -/
def uNotes (i : Nat) (k v : Int32) (s : Nat → Int32) : Nat → Int32 :=
  if nI 200 ≤ s (21 + 1262 * i + 9) then upd s (21 + 1262 * i + 9) (s (21 + 1262 * i + 9) + nI 1)
  else upd (upd (upd (upd s (21 + 1262 * i + (22 + 3 * (s (21 + 1262 * i + 9)).toNatClampNeg)) (s 0)) (21 + 1262 * i + (22 + 3 * (s (21 + 1262 * i + 9)).toNatClampNeg + 1)) k) (21 + 1262 * i + (22 + 3 * (s (21 + 1262 * i + 9)).toNatClampNeg + 2)) v) (21 + 1262 * i + 9) (s (21 + 1262 * i + 9) + nI 1)
theorem pt_notes {i E : Nat} {k v : Int32} {σ : TS} {s : Nat → Int32} (hi : i < 6) (hE : s (21 + 1262 * i + 9) = nI E) (hb : E < 2 ^ 31) : t_X2_notes (nI i) k v (tS σ s) = some ((), tS σ (uNotes i k v s)) := by
  unfold t_X2_notes uNotes
  simp (disch := omega) only [t_X2_of, pu_B1, pu_B2, pu_Bd, nI_add, pu_mul, pu_ld5, hE]
  by_cases h : nI 200 ≤ nI E
  · simp (disch := omega) only [if_pos h, pu_ld5, pu_st5, pu_B1, pu_B2, nI_add, hE]
  · have h' : E < 200 := by
      have := mt (nI_leI (a := 200) (b := E) (by omega) hb).mpr h
      omega
    simp (disch := omega) only [if_neg h, pu_ld5, pu_st5, pu_B1, pu_B2, nI_add, pu_mul, hE, nI_clamp, upd_ne]
