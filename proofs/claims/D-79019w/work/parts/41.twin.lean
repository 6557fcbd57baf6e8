set_option maxRecDepth 100000
/-! THE REFERENCE's small methods, closed -/
theorem pt_of {i k : Nat} (w : TS) : t_X2_of (nI i) (nI k) w = some (nI (21 + 1262 * (i) + k), w) := by
  unfold t_X2_of
  simp only [nI_add, pu_mul]
theorem pt_at {i n k : Nat} (w : TS) : t_X2_at (nI i) (nI n) (nI k) w = some (nI (21 + 1262 * (i) + (622 + 10 * (n) + k)), w) := by
  unfold t_X2_at
  simp only [nI_add, pu_mul, pt_of, pu_B2]
theorem pt_part {v n k : Nat} (w : TS) : t_X2_part (nI v) (nI n) (nI k) w = some (nI ((64 * (v) + n) * 9 + k), w) := by
  unfold t_X2_part
  simp only [nI_add, pu_mul]
/-- the instance's version by its number -/
def pVer (i ver : Nat) (s : Nat → Int32) : Prop := ver < 16 ∧ ∃ a b, a < 4 ∧ b < 4 ∧ ver = 4 * a + b ∧ s (21 + 1262 * (i) + 2) = nI a ∧ s (21 + 1262 * (i) + 3) = nI b
theorem pt_versionOf {i ver : Nat} {σ : TS} {s : Nat → Int32} (hi : i < 6) (h : pVer i ver s) : t_X2_versionOf (nI i) (tS σ s) = some (nI ver, tS σ s) := by
  obtain ⟨-, a, b, ha, hb, rfl, h1, h2⟩ := h
  unfold t_X2_versionOf
  simp (disch := omega) only [pu_B1, pu_B2, pu_Bd, nI_add, pu_mul, pu_ld5, pu_st5, pu_ld1, pu_ld3, pt_of, h1, h2]
theorem pt_nodePart {i ver n k : Nat} {σ : TS} {s : Nat → Int32} (hi : i < 6) (h : pVer i ver s) (hn : n < 64) (hk : k < 9) : t_X2_nodePart (nI i) (nI n) (nI k) (tS σ s) = some (σ 1 ((64 * (ver) + n) * 9 + k), tS σ s) := by
  unfold t_X2_nodePart
  have h0 := h.1
  rw [pt_versionOf hi h, pu_B2, pt_part, pu_B2, pu_ld1 (by omega), pu_B1]
def uFails (c : Nat) (s : Nat → Int32) : Nat → Int32 := if s (9 + c) = 0 then s else upd s (9 + c) (s (9 + c) - nI 1)
theorem pt_fails {c : Nat} {σ : TS} {s : Nat → Int32} (hc : c < 8) : t_X2_fails (nI c) (tS σ s) = some (if s (9 + c) = 0 then nI 0 else nI 1, tS σ (uFails c s)) := by
  unfold t_X2_fails uFails
  simp (disch := omega) only [pu_B1, pu_B2, pu_Bd, nI_add, pu_mul, pu_ld5, pu_st5, pu_ld1, pu_ld3]
  by_cases h : s (9 + c) = 0
  · simp only [if_pos h]
  · simp only [if_neg h]
theorem pt_comesTo {i n : Nat} {v : Int32} {σ : TS} {s : Nat → Int32} (hi : i < 6) (hn : n < 64) : t_X2_comesTo (nI i) (nI n) v (tS σ s) = some (v, tS σ (upd s (21 + 1262 * (i) + (622 + 10 * (n) + 0)) v)) := by
  unfold t_X2_comesTo
  simp (disch := omega) only [pu_B1, pu_B2, pu_Bd, nI_add, pu_mul, pu_ld5, pu_st5, pu_ld1, pu_ld3, pt_at]
/-- how many notes an instance has -/
def pE (i : Nat) (s : Nat → Int32) (B : Nat) : Prop := ∃ E : Nat, s (21 + 1262 * (i) + 9) = nI E ∧ E ≤ B
theorem pt_notes' {i B : Nat} {k v : Int32} {σ : TS} {s : Nat → Int32} (hi : i < 6) (h : pE i s B) (hb : B < 2 ^ 31) : t_X2_notes (nI i) k v (tS σ s) = some ((), tS σ (uNotes i k v s)) := by
  obtain ⟨E, h1, h2⟩ := h
  exact pt_notes hi h1 (by omega)
theorem uNotes_E {i B : Nat} {k v : Int32} {s : Nat → Int32} (h : pE i s B) : pE i (uNotes i k v s) (B + 1) := by
  obtain ⟨E, h1, h2⟩ := h
  refine ⟨E + 1, ?_, by omega⟩
  unfold uNotes
  split
  · rw [upd_self, h1, nI_add]
  · rw [upd_self, h1, nI_add]
/-- what notes leaves as it was -/
theorem uNotes_ne {i B j : Nat} {k v : Int32} {s : Nat → Int32} (h : pE i s B) (hb : B < 2 ^ 31) (h1 : j ≠ (21 + 1262 * (i) + 9)) (h2 : j < (21 + 1262 * (i) + 22) ∨ (21 + 1262 * (i) + 622) ≤ j) : uNotes i k v s j = s j := by
  obtain ⟨E, e1, e2⟩ := h
  unfold uNotes
  split
  · rw [upd_ne h1]
  · rename_i h3
    rw [e1] at h3 ⊢
    have h4 : E < 200 := by
      have := mt (nI_leI (a := 200) (b := E) (by omega) (by omega)).mpr h3
      omega
    rw [nI_clamp (by omega), upd_ne h1, upd_ne (by omega), upd_ne (by omega), upd_ne (by omega)]
def uTries (i n c : Nat) (s : Nat → Int32) : Nat → Int32 :=
  upd (upd (uNotes i (nI 0) (nI c) s) (21 + 1262 * (i) + (622 + 10 * (n) + 2)) (s (21 + 1262 * (i) + (622 + 10 * (n) + 2)) + nI 1)) (21 + 1262 * (i) + (622 + 10 * (n) + 3)) (s 0 + s (1 + c))
theorem pt_tries {i ver n c B : Nat} {σ : TS} {s : Nat → Int32} (hi : i < 6) (hv : pVer i ver s) (hn : n < 64) (hc : c < 8) (h1 : σ 1 ((64 * (ver) + n) * 9 + 1) = nI c) (hE : pE i s B) (hb : B < 2 ^ 31) : t_X2_tries (nI i) (nI n) (tS σ s) = some ((), tS σ (uTries i n c s)) := by
  unfold t_X2_tries uTries
  simp (disch := omega) only [pu_B1, pu_B2, pu_Bd, nI_add, pu_mul, pu_ld5, pu_st5, pu_ld1, pu_ld3, pt_nodePart hi hv hn, h1, pt_notes' hi hE hb, pt_at, uNotes_ne hE hb, upd_ne]
theorem pt_isIn (p a b : Int32) (w : TS) : t_X2_isIn p a b w = some (if a ≤ p ∧ p ≤ b then nI 1 else nI 0, w) := by
  unfold t_X2_isIn
  simp only [pu_Bd]
  by_cases h1 : p < a
  · rw [if_pos h1, if_neg (fun h => absurd h.1 (Int32.not_le.mpr h1))]
  · rw [if_neg h1]
    by_cases h2 : b < p
    · rw [if_pos h2, if_neg (fun h => absurd h.2 (Int32.not_le.mpr h2))]
    · rw [if_neg h2, if_pos ⟨Int32.not_lt.mp h1, Int32.not_lt.mp h2⟩]
