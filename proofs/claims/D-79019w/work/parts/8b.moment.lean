set_option maxRecDepth 100000
/-! A MOMENT: its instances; frames -/
/-- an instance in a moment: its version by the workflow's number and its own -/
def iOk (Ss : Nat → SV) (many : Nat → Nat) (σ : TS) (xa mo ia k : Nat) (w : gw) (tg : pT) (s : Nat → Int32) (T B Tr : Nat) : Prop := ∃ a b bo un, a < 4 ∧ b < many a ∧ b < 4 ∧ s (21 + 1262 * (k) + 2) = nI a ∧ s (21 + 1262 * (k) + 3) = nI b ∧ 0 < sEn (Ss (4 * a + b)) 0 ∧ pW (Ss (4 * a + b)) σ xa mo ia k (4 * a + b) T w tg s B bo un ∧ iRun (Ss (4 * a + b)) xa ia k w tg s Tr false bo un ∧ ∃ t, s (21 + 1262 * (k) + 4) = nI t ∧ t ≤ T
/-- a moment's row of instances -/
def mIn (mo : Nat) (w : gw) (tg : pT) (fi : Nat → Option Nat) : Prop := ∃ ins f0 f1 f3 f4, tg mo = (mo, 0) ∧ w.1 mo = some (.inl (1, [f0, f1, ga (some ins), f3, f4])) ∧ tg ins = (mo, 3) ∧ w.1 ins = some (.inr (4, 6, .inr fi))
def mOk (Ss : Nat → SV) (many : Nat → Nat) (σ : TS) (xa mo : Nat) (ias : Nat → Nat) (w : gw) (tg : pT) (s : Nat → Int32) (T B : Nat) (Tr : Nat → Nat) : Prop := pCo w tg ∧ pMo xa mo w tg s T ∧
  (∃ fi, mIn mo w tg fi ∧ ∀ k, k < 6 → (fi k = none ∧ s (21 + 1262 * (k) + 0) = nI 0) ∨ (fi k = some (ias k) ∧ s (21 + 1262 * (k) + 0) = nI 1 ∧ iOk Ss many σ xa mo (ias k) k w tg s T B (Tr k))) ∧
  ∀ j k, j < 6 → k < 6 → j ≠ k → s (21 + 1262 * (j) + 0) = nI 1 → s (21 + 1262 * (k) + 0) = nI 1 → ias j ≠ ias k
section MF
variable {S : SV} {σ : TS} {xa mo ia i ver T : Nat}
theorem uLive0_fr {w w1 : gw} {tg tg1 : pT} {s s1 : Nat → Int32} {ua : Nat} (hn0 : 0 < sEn S 0) (hS : sWf S) (hW : aW w w1 tg tg1 ia 0 64) (hs : ∀ m k, m < 64 → k < 10 → s1 (21 + 1262 * (i) + (622 + 10 * (m) + k)) = s (21 + 1262 * (i) + (622 + 10 * (m) + k))) (h : uLive S xa ia i w tg s T 0 ua) : uLive S xa ia i w1 tg1 s1 T 0 ua := by
  have hNs : sEn S 0 ≤ 64 := hS.1
  obtain ⟨L, left, tried, til, h1, ⟨r0, r1, r2⟩, n1, n2, n3, ⟨t, k, u1, u2, u3, u4, u5⟩, n5, n6, U, n7, n8, n9⟩ := h
  have hf : ∀ t, rFor S i s1 0 t ↔ rFor S i s 0 t := fun t => ⟨fun z => ⟨z.1, Or.inl rfl⟩, fun z => ⟨z.1, Or.inl rfl⟩⟩
  have ho : ∀ t, rFor S i s 0 t → (rOpen S i s1 t ↔ rOpen S i s t) := by
    intro t ht
    have h2 := ht.1
    unfold rOpen
    rw [hs t 0 (by omega) (by omega), hs t 6 (by omega) (by omega)]
  refine ⟨L, left, tried, til, uCell_fr hW (Nat.le_refl _) (by omega) h1, ⟨r0, ?_, ?_⟩, n1, n2, n3, ⟨t, k, (hf t).mpr u1, (ho t u1).mpr u2, u3, ?_, ?_⟩, ?_, ?_, U, n7, n8, n9⟩
  · intro k
    rw [r1 k]
    constructor
    · rintro ⟨k0, t, a, b, c, d⟩
      have h2 := a.1
      exact ⟨k0, t, (hf t).mpr a, b, (hs t 0 (by omega) (by omega)).trans c, (hs t 5 (by omega) (by omega)).trans d⟩
    · rintro ⟨k0, t, a, b, c, d⟩
      have a := (hf t).mp a
      have h2 := a.1
      exact ⟨k0, t, a, b, (hs t 0 (by omega) (by omega)).symm.trans c, (hs t 5 (by omega) (by omega)).symm.trans d⟩
  · intro j k t a b c d
    have c := (hf t).mp c
    have h2 := c.1
    rw [ho t c]
    exact r2 j k t a b c ((hs t 5 (by omega) (by omega)).symm.trans d)
  · have h2 := u1.1
    rw [hs t 5 (by omega) (by omega)]
    exact u4
  · rw [hs 0 7 (by omega) (by omega)]
    exact u5
  · rw [hs 0 8 (by omega) (by omega)]
    exact n5
  · rw [hs 0 9 (by omega) (by omega)]
    exact n6
theorem iRun_fr {w w1 : gw} {tg tg1 : pT} {s s1 : Nat → Int32} {q q1 : Bool} {bo un : Option Nat} (hn0 : 0 < sEn S 0) (hS : sWf S) (hK : w1.2.2.2 = w.2.2.2) (hq : q1 = true → q = true) (hW : aW w w1 tg tg1 ia 0 64) (hs : ∀ j, (21 + 1262 * (i) + 1) ≤ j → j < (21 + 1262 * (i) + 1262) → s1 j = s j) (h : iRun S xa ia i w tg s T q bo un) : iRun S xa ia i w1 tg1 s1 T q1 bo un := by
  have hNs : sEn S 0 ≤ 64 := hS.1
  have hN : ∀ m k, m < 64 → k < 10 → s1 (21 + 1262 * (i) + (622 + 10 * (m) + k)) = s (21 + 1262 * (i) + (622 + 10 * (m) + k)) := fun m k h1 h2 => hs _ (by omega) (by omega)
  have e1 := hs (21 + 1262 * (i) + 1) (by omega) (by omega)
  have e5 := hs (21 + 1262 * (i) + 5) (by omega) (by omega)
  rcases h with ⟨h1, h2, h3, a, h4, h5, h6⟩ | ⟨h1, h2, h3, h4, ua, h5, h6⟩ | ⟨h1, h2, h3, h4, t, h5, h6⟩
  · refine Or.inl ⟨e1.trans h1, h2, e5.trans h3, a, h4, (rB_fr (q := q) (q1 := q1) (T := T) (T1 := T) hS hK (fun z => ⟨hq z, fun c hc y => (hs _ (by omega) (by omega)).trans y⟩) (Nat.le_refl _) _).1 0 a hn0 hS.2.2.1 (hW.sub (Nat.le_refl _) hNs) (aS.aY hS hn0 (fun m k _ h2 h3 => hN m k (by omega) h3)) h5, (hN 0 0 (by omega) (by omega)).trans h6⟩
  · refine Or.inr (Or.inl ⟨e1.trans h1, h2, e5.trans h3, fun m hm => ?_, ua, h5, uLive0_fr hn0 hS hW hN h6⟩)
    rw [hN m 0 (by omega) (by omega), hN m 7 (by omega) (by omega)]
    exact h4 m hm
  · refine Or.inr (Or.inr ⟨by rw [e1]; exact h1, h2, h3, fun m h1 h2 => ?_, t, h5, e5.trans h6⟩)
    rw [hN m 0 (by omega) (by omega), hN m 7 (by omega) (by omega)]
    exact h4 m h1 h2
/-- an instance under a step of others -/
theorem pW.oth {w w1 : gw} {tg tg1 : pT} {s s1 : Nat → Int32} {B T1 : Nat} {bo un : Option Nat} {P : Nat × Nat → Prop} (h : pW S σ xa mo ia i ver T w tg s B bo un) (hM : pMo xa mo w1 tg1 s1 T1) (hF : pFr w w1 tg tg1 P) (hP0 : ¬ P (0, 100)) (hPi : ∀ j, ¬ P (ia, j)) (hs : ∀ j, (21 + 1262 * (i) + 0) ≤ j → j < (21 + 1262 * (i) + 1262) → s1 j = s j) : pW S σ xa mo ia i ver T1 w1 tg1 s1 B bo un := by
  obtain ⟨⟨h0, hi, h1, h2⟩, hC, hO, hV, -, hI, hE⟩ := h
  have hV' : pVer i ver s1 := by
    obtain ⟨v1, a, b, v2, v3, v4, v5, v6⟩ := hV
    exact ⟨v1, a, b, v2, v3, v4, (hs _ (by omega) (by omega)).trans v5, (hs _ (by omega) (by omega)).trans v6⟩
  have hE' : pE i s1 B := by
    obtain ⟨E, e1, e2⟩ := hE
    exact ⟨E, (hs _ (by omega) (by omega)).trans e1, e2⟩
  have hI1 : pIn S xa mo ia i w1 tg1 s bo un := hI.fr (fun a e j ha hj hl => hF.at hC.1 ha (by rw [hj]; exact hPi j)) hF.2.2.1
  refine ⟨⟨h0, hi, h1, h2⟩, hC.fr hF hP0, hO.fr (hF.stc hC.1 hP0), hV', hM, ?_, hE'⟩
  obtain ⟨va, pe, hi', dl, fv, fp, fh, i1, i2, i3, i4, i5, i6, i7, i8, i9, i10, i11, i12⟩ := hI1
  refine ⟨va, pe, hi', dl, fv, fp, fh, i1, ?_, i3, i4, i5, i6, i7, i8, ?_, ?_, ?_, ?_⟩
  · rw [i2, hs (21 + 1262 * (i) + 2) (by omega) (by omega), hs (21 + 1262 * (i) + 3) (by omega) (by omega), hs (21 + 1262 * (i) + 4) (by omega) (by omega), hs (21 + 1262 * (i) + 9) (by omega) (by omega), hs (21 + 1262 * (i) + 1) (by omega) (by omega), hs (21 + 1262 * (i) + 5) (by omega) (by omega), hs (21 + 1262 * (i) + 7) (by omega) (by omega), hs (21 + 1262 * (i) + 8) (by omega) (by omega)]
  · intro c hc
    rw [hs _ (by omega) (by omega)]
    exact i9 c hc
  · intro c hc
    rw [hs _ (by omega) (by omega)]
    exact i10 c hc
  · intro j hj
    rw [hs _ (by omega) (by omega)]
    exact i11 j hj
  · have hNs : sEn S 0 ≤ 64 := h1.1
    exact i12.fr (fun a e j ha hj hl => ⟨ha, rfl⟩) rfl (hs _ (by omega) (by omega)) (fun n hn hk => by
      rw [hs (21 + 1262 * (i) + (622 + 10 * (n) + 0)) (by omega) (by omega), hs (21 + 1262 * (i) + (622 + 10 * (n) + 5)) (by omega) (by omega), hs (21 + 1262 * (i) + (622 + 10 * (n) + 6)) (by omega) (by omega)]
      exact ⟨Iff.rfl, fun _ => ⟨rfl, rfl⟩⟩)
theorem iOk.oth {Ss : Nat → SV} {many : Nat → Nat} {k : Nat} {w w1 : gw} {tg tg1 : pT} {s s1 : Nat → Int32} {B B1 Tr T1 : Nat} {P : Nat × Nat → Prop} (h : iOk Ss many σ xa mo ia k w tg s T B Tr) (hM : pMo xa mo w1 tg1 s1 T1) (hF : pFr w w1 tg tg1 P) (hP0 : ¬ P (0, 100)) (hPi : ∀ j, ¬ P (ia, j)) (hs : ∀ j, (21 + 1262 * (k) + 0) ≤ j → j < (21 + 1262 * (k) + 1262) → s1 j = s j) (hT : T ≤ T1) (hB : B ≤ B1) : iOk Ss many σ xa mo ia k w1 tg1 s1 T1 B1 Tr := by
  obtain ⟨a, b, bo, un, h1, h2, h3, h4, h5, h6, h7, h8, t, h9, h10⟩ := h
  refine ⟨a, b, bo, un, h1, h2, h3, (hs _ (by omega) (by omega)).trans h4, (hs _ (by omega) (by omega)).trans h5, h6, (h7.oth hM hF hP0 hPi hs).mono hB, iRun_fr h6 h7.1.2.2.1 hF.2.2.1 id (hF.aW h7.bd (fun t ht z => ?_)) (fun j a b => hs j (by omega) b) h8, t, (hs _ (by omega) (by omega)).trans h9, by omega⟩
  rcases ht with ht | ht
  · exact hPi t.2 (by rw [← ht.1]; exact z)
  · rw [ht] at z
    exact hP0 z
theorem mIn.fr {w w1 : gw} {tg tg1 : pT} {P : Nat × Nat → Prop} {fi : Nat → Option Nat} (h : mIn mo w tg fi) (hb : pBd w) (hF : pFr w w1 tg tg1 P) (h0 : ¬ P (mo, 0)) (h3 : ¬ P (mo, 3)) : mIn mo w1 tg1 fi := by
  obtain ⟨ins, f0, f1, f3, f4, a1, a2, a3, a4⟩ := h
  have b1 := hF.at hb a2 (by rw [a1]; exact h0)
  have b2 := hF.at hb a4 (by rw [a3]; exact h3)
  exact ⟨ins, f0, f1, f3, f4, b1.2.trans a1, b1.1, b2.2.trans a3, b2.1⟩
/-- a step that touches nothing of a moment -/
theorem mOk.fr {Ss : Nat → SV} {many : Nat → Nat} {ias : Nat → Nat} {w w1 : gw} {tg tg1 : pT} {s : Nat → Int32} {B : Nat} {Tr : Nat → Nat} {P : Nat × Nat → Prop} (h : mOk Ss many σ xa mo ias w tg s T B Tr) (hF : pFr w w1 tg tg1 P) (h0 : ¬ P (0, 100)) (hm : ∀ j, ¬ P (mo, j)) (hi : ∀ k, k < 6 → s (21 + 1262 * (k) + 0) = nI 1 → ∀ j, ¬ P (ias k, j)) : mOk Ss many σ xa mo ias w1 tg1 s T B Tr := by
  obtain ⟨hC, hM, ⟨fi, hfi, hk⟩, hd⟩ := h
  have hM1 := hM.fr hF hC.1 hm (fun _ _ => rfl)
  refine ⟨hC.fr hF h0, hM1, ⟨fi, hfi.fr hC.1 hF (hm _) (hm _), fun k k6 => ?_⟩, hd⟩
  rcases hk k k6 with z | ⟨z1, z2, z3⟩
  · exact Or.inl z
  · exact Or.inr ⟨z1, z2, z3.oth hM1 hF h0 (hi k k6 z2) (fun _ _ _ => rfl) (Nat.le_refl _) (Nat.le_refl _)⟩
theorem mOk.mono {Ss : Nat → SV} {many : Nat → Nat} {ias : Nat → Nat} {w : gw} {tg : pT} {s : Nat → Int32} {B B1 : Nat} {Tr : Nat → Nat} (h : mOk Ss many σ xa mo ias w tg s T B Tr) (hB : B ≤ B1) : mOk Ss many σ xa mo ias w tg s T B1 Tr := by
  obtain ⟨hC, hM, ⟨fi, hfi, hk⟩, hd⟩ := h
  refine ⟨hC, hM, ⟨fi, hfi, fun k k6 => ?_⟩, hd⟩
  rcases hk k k6 with z | ⟨z1, z2, z3⟩
  · exact Or.inl z
  · exact Or.inr ⟨z1, z2, z3.oth hM (pFr.rf (P := fun _ => False) hC.1) id (fun _ => id) (fun _ _ _ => rfl) (Nat.le_refl _) hB⟩
end MF
/-- cells and slots that a moment's instances may still take -/
def mPh (s : Nat → Int32) : Nat := pSum (fun k => if s (21 + 1262 * (k) + 0) = nI 1 then iPh k s else 0) 6
def mRk (w w1 : gw) (s s1 : Nat → Int32) : Prop := w1.2.1 + mPh s1 ≤ w.2.1 + mPh s ∧ w1.2.2.1 + 12 * mPh s1 ≤ w.2.2.1 + 12 * mPh s
/-- the places that a moment's step writes -/
def mP (mo : Nat) (ias : Nat → Nat) (s : Nat → Int32) : Nat × Nat → Prop := fun t => t.1 = mo ∧ t.2 < 4 ∨ ∃ k, k < 6 ∧ s (21 + 1262 * (k) + 0) = nI 1 ∧ t.1 = ias k
/-- the rows that stay -/
def mQ (s s1 : Nat → Int32) : Prop := (∀ j, 1 ≤ j → j < 9 → s1 j = s j) ∧ (∀ j, 17 ≤ j → j < 21 → s1 j = s j) ∧ ∀ k, k < 6 → s1 (21 + 1262 * (k) + 0) = s (21 + 1262 * (k) + 0)
