set_option maxRecDepth 100000
/-! AN INSTANCE's LOOKS -/
/-- how an instance stands: it runs, is compensated, has ended -/
def iRun (S : SV) (xa ia i : Nat) (w : gw) (tg : pT) (s : Nat → Int32) (T : Nat) (q : Bool) (bo un : Option Nat) : Prop :=
  (s (21 + 1262 * (i) + 1) = nI 0 ∧ un = none ∧ s (21 + 1262 * (i) + 5) = -5 ∧ ∃ a, bo = some a ∧ rB S xa ia i w tg s T q (sLv S 0) 0 a ∧ s (21 + 1262 * (i) + (622 + 10 * (0) + 0)) = nI 1) ∨
  (s (21 + 1262 * (i) + 1) = nI 2 ∧ bo = none ∧ s (21 + 1262 * (i) + 5) = -5 ∧ (∀ m, m < sEn S 0 → s (21 + 1262 * (i) + (622 + 10 * (m) + 0)) ≠ nI 1 ∧ s (21 + 1262 * (i) + (622 + 10 * (m) + 0)) ≠ nI 5 ∧ (m ≠ 0 → s (21 + 1262 * (i) + (622 + 10 * (m) + 7)) = -1)) ∧ ∃ ua, un = some ua ∧ uLive S xa ia i w tg s T 0 ua) ∨
  ((s (21 + 1262 * (i) + 1) = nI 1 ∨ s (21 + 1262 * (i) + 1) = nI 3 ∨ s (21 + 1262 * (i) + 1) = nI 4) ∧ bo = none ∧ un = none ∧ rDead i s 0 (sEn S 0) ∧ ∃ t, t ≤ 100300 ∧ s (21 + 1262 * (i) + 5) = nI t)
/-- the rows that an instance's look writes -/
def iQ (i : Nat) (s s1 : Nat → Int32) : Prop := ∀ j, ¬ (9 ≤ j ∧ j < 17) → ¬ ((21 + 1262 * (i) + 1) ≤ j ∧ j < (21 + 1262 * (i) + 2)) → ¬ ((21 + 1262 * (i) + 5) ≤ j ∧ j < (21 + 1262 * (i) + 1262)) → s1 j = s j
theorem iQ.tr {i : Nat} {s s1 s2 : Nat → Int32} (h : iQ i s s1) (h' : iQ i s1 s2) : iQ i s s2 := fun j a b c => (h' j a b c).trans (h j a b c)
theorem iQ.rf {i : Nat} {s : Nat → Int32} : iQ i s s := fun _ _ _ _ => rfl
theorem pQ.i {i lo hi : Nat} {s s1 : Nat → Int32} (h : pQ i lo hi s s1) (hh : hi ≤ 64) : iQ i s s1 := fun j a b c => h j a (by omega) (by omega)
theorem uTurn_q {i st B : Nat} {s : Nat → Int32} (h : pE i s B) (hB : B < 2 ^ 31) : iQ i s (uTurn i st s) ∧ (∀ m k, k < 10 → uTurn i st s (21 + 1262 * (i) + (622 + 10 * (m) + k)) = s (21 + 1262 * (i) + (622 + 10 * (m) + k))) ∧ uTurn i st s (21 + 1262 * (i) + 1) = nI st ∧ uTurn i st s (21 + 1262 * (i) + 8) = s (21 + 1262 * (i) + 8) ∧ (st = 2 → uTurn i st s (21 + 1262 * (i) + 5) = s (21 + 1262 * (i) + 5)) ∧ (st ≠ 2 → uTurn i st s (21 + 1262 * (i) + 5) = s 0) := by
  have hEu : pE i (upd s (21 + 1262 * (i) + 1) (nI st)) B := by
    obtain ⟨E, y1, y2⟩ := h
    exact ⟨E, (upd_ne (by omega)).trans y1, y2⟩
  have hn : ∀ j, j ≠ (21 + 1262 * (i) + 9) → (j < (21 + 1262 * (i) + 22) ∨ (21 + 1262 * (i) + 622) ≤ j) → uNotes i (nI 11) (nI st) (upd s (21 + 1262 * (i) + 1) (nI st)) j = upd s (21 + 1262 * (i) + 1) (nI st) j := fun j h1 h2 => uNotes_ne hEu hB h1 h2
  unfold uTurn
  by_cases h2 : st = 2
  · rw [if_pos h2]
    refine ⟨fun j a b c => ?_, fun m k hk => ?_, ?_, ?_, fun _ => ?_, fun z => absurd h2 z⟩
    · rw [hn j (by omega) (by omega), upd_ne (by omega)]
    · rw [hn _ (by omega) (by omega), upd_ne (by omega)]
    · rw [hn _ (by omega) (by omega), upd_self]
    · rw [hn _ (by omega) (by omega), upd_ne (by omega)]
    · rw [hn _ (by omega) (by omega), upd_ne (by omega)]
  · rw [if_neg h2]
    refine ⟨fun j a b c => ?_, fun m k hk => ?_, ?_, ?_, fun z => absurd z h2, fun _ => upd_self _ _ _⟩
    · rw [upd_ne (by omega), hn j (by omega) (by omega), upd_ne (by omega)]
    · rw [upd_ne (by omega), hn _ (by omega) (by omega), upd_ne (by omega)]
    · rw [upd_ne (by omega), hn _ (by omega) (by omega), upd_self]
    · rw [upd_ne (by omega), hn _ (by omega) (by omega), upd_ne (by omega)]
def kLook (x6 : Int32) (w5 : TS) : Option (Unit × TS) := gB2 (t_X2_of x6 (nI 1) w5) fun x8 w7 => gB1 (tLd w7 5 x8) fun x9 => if x9 = (nI 2) then gB2 (t_X2_compensates x6 (nI 0) w7) fun x12 w11 => if x12 = 0 then some ((), w11) else gB2 (t_X2_of x6 (nI 8) w11) fun x15 w14 => gB1 (tLd w14 5 x15) fun x16 => gBd (fun (x19 : Int32) (x20 : Int32) (w18 : TS) => gB2 (t_X2_becomes x19 x20 w18) fun _ w21 => some ((), w21)) fun k17 => if x16 ≤ 0 then k17 x6 (nI 3) w14 else k17 x6 (nI 4) w14 else some ((), w7)
section IL
variable {S : SV} {σ : TS} {xa mo ia i ver T : Nat}
/-- while it is compensated, and its end -/
theorem sim_itail {w : gw} {tg : pT} {s : Nat → Int32} {B ua left tried : Nat} {til : Int32} {L : List Nat} (hW : pW S σ xa mo ia i ver T w tg s B none (some ua)) (hB : B + 210 < 2 ^ 31) (hn0 : 0 < sEn S 0) (hst : s (21 + 1262 * (i) + 1) = nI 2) (h5 : s (21 + 1262 * (i) + 5) = -5) (hd : ∀ m, m < sEn S 0 → s (21 + 1262 * (i) + (622 + 10 * (m) + 0)) ≠ nI 1 ∧ s (21 + 1262 * (i) + (622 + 10 * (m) + 0)) ≠ nI 5 ∧ (m ≠ 0 → s (21 + 1262 * (i) + (622 + 10 * (m) + 7)) = -1)) (hu : uSt S xa ia i 0 ua L left tried til w tg s) (ht3 : tried ≤ 3) :
    ∃ w1 s1 un1, (∀ d, f_X16_looks (d + 1) ia w = some ((), w1)) ∧ kLook (nI i) (tS σ s) = some ((), tS σ s1) ∧ pW S σ xa mo ia i ver T w1 tg s1 (B + 203) none un1 ∧ w1.2 = w.2 ∧ pFr w w1 tg tg (pP mo ia 0 64) ∧ iQ i s s1 ∧ (∀ m, m < 64 → s1 (21 + 1262 * (i) + (622 + 10 * (m) + 0)) = s (21 + 1262 * (i) + (622 + 10 * (m) + 0))) ∧ s1 (21 + 1262 * (i) + 1) ≠ nI 0 ∧ iRun S xa ia i w1 tg s1 T true none un1 := by
  have hS : sWf S := hW.1.2.2.1
  have hNs : sEn S 0 ≤ 64 := hS.1
  have hi : i < 6 := hW.1.2.1
  have hia := hW.1.1
  have hk0 := hS.2.2.1
  obtain ⟨F, hF⟩ : ∃ F : Nat → Prop, F = fun t => t < sEn S 0 ∧ s (21 + 1262 * (i) + (622 + 10 * (t) + 0)) = nI 2 := ⟨_, rfl⟩
  have hlen : left ≤ 24 := by
    have h1 := hu.2.1.1
    obtain ⟨-, td, tda, f, -, -, -, -, -, h2⟩ := hu.1
    have := h2.2.1
    omega
  obtain ⟨w1, s1, x, r1, r2, r3, r4, r5, r6, r7⟩ := undo_loop (n := 0) (ua := ua) (F := F) (L := L) (tg := tg) hS hn0 (by omega) 100 w s B left tried til 20001 20001 (by omega) ht3 (by omega) (by omega) hW (by omega) hu (fun t z1 z2 z3 => by
    rw [hF]
    exact ⟨z1.1, z3⟩)
  have hf : ∀ t, F t → t < sEn S 0 ∧ s (21 + 1262 * (i) + (622 + 10 * (t) + 0)) = nI 2 := fun t h => by rw [hF] at h; exact h
  have hst0 : ∀ m, m < 64 → s1 (21 + 1262 * (i) + (622 + 10 * (m) + 0)) = s (21 + 1262 * (i) + (622 + 10 * (m) + 0)) := fun m hm => r6 _ (by omega) (by omega) (by omega) (by omega) (fun t _ => by omega)
  have hst7 : ∀ m, m < 64 → m ≠ 0 → s1 (21 + 1262 * (i) + (622 + 10 * (m) + 7)) = s (21 + 1262 * (i) + (622 + 10 * (m) + 7)) := fun m hm _ => r6 _ (by omega) (by omega) (by omega) (by omega) (fun t _ => by omega)
  have hQ1 : iQ i s s1 := fun j h1 h2 h3 => r6 j h1 (by omega) (by omega) (by omega) (fun t ht => by have := hf t ht; omega)
  have hFr : pFr w w1 tg tg (pP mo ia 0 64) := r5.mono (fun t z => by
    rcases z with ⟨z1, z2⟩ | z
    · exact Or.inl ⟨z1, by omega⟩
    · exact Or.inr z)
  obtain ⟨va, pe, dl, hi', own1, -⟩ := hW.own
  obtain ⟨va2, pe2, dl2, hi2, own2, -⟩ := r3.own
  have h11 : s1 (21 + 1262 * (i) + 1) = nI 2 := (r6 _ (by omega) (by omega) (by omega) (by omega) (fun t _ => by omega)).trans hst
  have h15 : s1 (21 + 1262 * (i) + 5) = -5 := (r6 _ (by omega) (by omega) (by omega) (by omega) (fun t _ => by omega)).trans h5
  have huc : ∃ fs, w.1 ua = some (.inl (26, fs)) := by
    obtain ⟨⟨z1, td, tda, f, z2, -⟩, -⟩ := hu
    exact ⟨_, z2⟩
  obtain ⟨ufs, huc⟩ := huc
  have hover : f_X26_isOver ua w = some (x, w1) := by
    rw [f_isOver_eq]
    exact r1
  have hcomp : t_X2_compensates (nI i) (nI 0) (tS σ s) = some (x, tS σ s1) := by
    rw [t_comp_eq]
    exact r2
  have ef1 : ∀ w : TS, t_X2_of (nI i) (nI 1) w = _ := fun w => pt_of w
  have ef8 : ∀ w : TS, t_X2_of (nI i) (nI 8) w = _ := fun w => pt_of w
  have y0 : ¬ nI 2 = 0 := by decide
  have hd1 : ∀ m, m < sEn S 0 → s1 (21 + 1262 * (i) + (622 + 10 * (m) + 0)) ≠ nI 1 ∧ s1 (21 + 1262 * (i) + (622 + 10 * (m) + 0)) ≠ nI 5 ∧ (m ≠ 0 → s1 (21 + 1262 * (i) + (622 + 10 * (m) + 7)) = -1) := fun m hm => by
    rw [hst0 m (by omega)]
    exact ⟨(hd m hm).1, (hd m hm).2.1, fun z => (hst7 m (by omega) z).trans ((hd m hm).2.2 z)⟩
  rcases r7 with ⟨rfl, hlv⟩ | ⟨rfl, h7, -⟩
  · refine ⟨w1, s1, some ua, fun d => ?_, ?_, r3.mono (by omega), r4, hFr, hQ1, hst0, by rw [h11]; decide, Or.inr (Or.inl ⟨h11, rfl, h15, hd1, ua, rfl, hlv⟩)⟩
    · show f_X16_looks_s (f_X16_looks d) ia w = _
      unfold f_X16_looks_s
      rw [pu_I (k := 9) own1 rfl, pu_B1, hst, if_neg y0, pu_B1, if_pos rfl, pu_R (k := 14) own1 rfl, pu_B1, pu_B1, pu_Ob huc, pu_B1, hover, pu_B2, if_pos (by decide)]
    · unfold kLook
      rw [ef1, pu_B2, pu_ld5 (by omega), pu_B1, hst, if_pos rfl, hcomp, pu_B2, if_pos (by decide)]
  · -- it has ended
    obtain ⟨st, hst', hcf, hct⟩ : ∃ st, (st = 3 ∨ st = 4) ∧ (∀ (β : Type) (k : Option Nat → Int32 → gw → β), (if s1 (21 + 1262 * (i) + 8) ≤ 0 then k (some ia) (nI 3) w1 else k (some ia) (nI 4) w1) = k (some ia) (nI st) w1) ∧ (∀ (β : Type) (k : Int32 → Int32 → TS → β), (if s1 (21 + 1262 * (i) + 8) ≤ 0 then k (nI i) (nI 3) (tS σ s1) else k (nI i) (nI 4) (tS σ s1)) = k (nI i) (nI st) (tS σ s1)) := by
      by_cases hz : s1 (21 + 1262 * (i) + 8) ≤ 0
      · exact ⟨3, Or.inl rfl, fun β k => if_pos hz, fun β k => if_pos hz⟩
      · exact ⟨4, Or.inr rfl, fun β k => if_neg hz, fun β k => if_neg hz⟩
    obtain ⟨w2, n1, n2, n3, n4, n5⟩ := sim_turns r3 (by omega) (st := st) (by omega)
    rw [if_neg (by omega), if_neg (by omega)] at n3
    obtain ⟨q1, q2, q3, q4, -, q6⟩ := uTurn_q (st := st) r3.2.2.2.2.2.2 (by omega)
    have ms : s1 0 = nI T ∧ T ≤ 100300 := by
      obtain ⟨-, -, -, -, ⟨du, fa, ins, fd, ff, fi, m1, m2, m3, m4, m5, m6, m7, m8, m9, m10, m11⟩, -⟩ := r3
      exact ⟨m10, m11⟩
    refine ⟨w2, uTurn i st s1, none, fun d => ?_, ?_, n3.mono (by omega), n4.trans r4, hFr.tr (n5.mono (fun t z => pP_notes t z)), hQ1.tr q1, fun m hm => (q2 m 0 (by omega)).trans (hst0 m hm), ?_, Or.inr (Or.inr ⟨?_, rfl, rfl, fun m h1 h2 => ?_, T, ms.2, ?_⟩)⟩
    · show f_X16_looks_s (f_X16_looks d) ia w = _
      unfold f_X16_looks_s
      rw [pu_I (k := 9) own1 rfl, pu_B1, hst, if_neg y0, pu_B1, if_pos rfl, pu_R (k := 14) own1 rfl, pu_B1, pu_B1, pu_Ob huc, pu_B1, hover, pu_B2, if_neg (by decide), pu_I (k := 12) own2 rfl, pu_B1, pu_Bd]
      refine (hcf _ (fun (r13 : Option Nat) (x14 : Int32) (w12 : gw) => gB1 r13 fun a15 => gB1 (gOb w12 a15 16) fun _ => gB2 (f_X16_turns a15 x14 w12) fun _ w16 => some ((), w16))).trans ?_
      try dsimp only
      rw [pu_B1, pu_Ob own2, pu_B1, n1, pu_B2]
    · unfold kLook
      rw [ef1, pu_B2, pu_ld5 (by omega), pu_B1, hst, if_pos rfl, hcomp, pu_B2, if_neg (by decide), ef8, pu_B2, pu_ld5 (by omega), pu_B1, pu_Bd]
      refine (hct _ (fun (x19 : Int32) (x20 : Int32) (w18 : TS) => gB2 (t_X2_becomes x19 x20 w18) fun _ w21 => some ((), w21))).trans ?_
      try dsimp only
      rw [n2, pu_B2]
    · rw [q3]
      rcases hst' with rfl | rfl <;> decide
    · rw [q3]
      rcases hst' with rfl | rfl
      · exact Or.inr (Or.inl rfl)
      · exact Or.inr (Or.inr rfl)
    · rw [q2 m 0 (by omega), q2 m 7 (by omega)]
      obtain ⟨z1, z2, z3⟩ := hd1 m h2
      refine ⟨?_, z1, z2⟩
      by_cases hm : m = 0
      · rw [hm]; exact h7
      · exact z3 hm
    · exact (q6 (by omega)).trans ms.1
/-- cells and slots that an instance may still take -/
def iPh (i : Nat) (s : Nat → Int32) : Nat := pPh i s + (if s (21 + 1262 * (i) + 1) = nI 0 then 4 else 0)
def iRk (i : Nat) (w w1 : gw) (s s1 : Nat → Int32) : Prop := w1.2.1 + iPh i s1 ≤ w.2.1 + iPh i s ∧ w1.2.2.1 + 12 * iPh i s1 ≤ w.2.2.1 + 12 * iPh i s
theorem sim_look {w : gw} {tg : pT} {s : Nat → Int32} {B T0 : Nat} {q : Bool} {bo un : Option Nat} (hW : pW S σ xa mo ia i ver T w tg s B bo un) (hB : B + 17000 < 2 ^ 31) (hn0 : 0 < sEn S 0) (hI : iRun S xa ia i w tg s T0 q bo un) (r0 : w.2.1 + iPh i s ≤ w.2.2.2 0) (r1 : w.2.2.1 + 12 * iPh i s ≤ w.2.2.2 1) :
    ∃ w1 tg1 s1 bo1 un1, f_X16_looks 3 ia w = some ((), w1) ∧ t_X2_looksAt (nI i) (tS σ s) = some ((), tS σ s1) ∧ pW S σ xa mo ia i ver T w1 tg1 s1 (B + 17000) bo1 un1 ∧ pFr w w1 tg tg1 (pP mo ia 0 64) ∧ iQ i s s1 ∧ iRk i w w1 s s1 ∧ iRun S xa ia i w1 tg1 s1 T true bo1 un1 := by
  have hS : sWf S := hW.1.2.2.1
  have hNs : sEn S 0 ≤ 64 := hS.1
  have hi : i < 6 := hW.1.2.1
  have hia := hW.1.1
  have hk0 := hS.2.2.1
  have hlv : sLv S 0 ≤ 4 := hS.2.2.2.1
  have ef1 : ∀ w : TS, t_X2_of (nI i) (nI 1) w = _ := fun w => pt_of w
  have e7 : ∀ w : TS, t_X2_at (nI i) (nI 0) (nI 7) w = _ := fun w => pt_at w
  obtain ⟨va, pe, dl, hi', own1, -⟩ := hW.own
  rcases hI with ⟨hst, rfl, h5, a, rfl, hR, hr0⟩ | ⟨hst, rfl, h5, hd, ua, rfl, L, left, tried, til, u1, u2, u3⟩ | ⟨hst, rfl, rfl, hd, t, ht, h5⟩
  · -- it runs
    have hiP : iPh i s = pPh i s + 4 := by
      unfold iPh
      rw [if_pos hst]
    obtain ⟨w1, tg1, s1, o, x, z1, z2, z3, z4, z5, z6, z7, z8⟩ := (sim_root (S := S) (σ := σ) (xa := xa) (mo := mo) (ia := ia) (i := i) (ver := ver) (T := T) (bo := some a) (un := none) hlv).1 0 a w tg s B T0 q hn0 hk0 rfl hW (by omega) ⟨by omega, by omega⟩ hR hr0
    have hF1 : pFr w w1 tg tg1 (pP mo ia 0 64) := z4.mono (fun t z => by
      rcases z with ⟨y1, y2⟩ | z
      · exact Or.inl ⟨y1, by omega⟩
      · exact Or.inr z)
    have hQ1 : iQ i s s1 := z5.i (by omega)
    have hst1 : s1 (21 + 1262 * (i) + 1) = nI 0 := (z5 _ (by omega) (by omega) (by omega)).trans hst
    have h51 : s1 (21 + 1262 * (i) + 5) = -5 := (z5 _ (by omega) (by omega) (by omega)).trans h5
    obtain ⟨va1, pe1, dl1, hi1, own2, -⟩ := z3.own
    obtain ⟨-, -, hc2, hc3, hc4⟩ := z3.2.1
    have hz0 : (nI 0 : Int32) = 0 := by decide
    have hfr : ∀ d, f_X16_looks (d + 1) ia w = (gBd (fun (w23 : gw) => some ((), w23)) fun k22 => if some o = (some (w1.2.2.2 3)) then gB1 (gOb w1 ia 16) fun _ => gB2 (f_X16_turns ia (nI 1) w1) fun _ w27 => k22 w27 else if some o = (some (w1.2.2.2 4)) then gB1 (gOb w1 ia 16) fun _ => gB2 (f_X16_compensates (f_X16_looks d) ia  w1) fun _ w26 => k22 w26 else k22 w1) := fun d => by
      show f_X16_looks_s (f_X16_looks d) ia w = _
      unfold f_X16_looks_s
      rw [pu_I (k := 9) own1 rfl, pu_B1, hst, if_pos hz0, pu_R (k := 13) own1 rfl, pu_B1, pu_B1, z1, pu_B2]
    have htr : t_X2_looksAt (nI i) (tS σ s) = if x = (nI 2) then gB2 (t_X2_becomes (nI i) (nI 1) (tS σ s1)) fun _ w32 => kLook (nI i) w32 else if x = (nI 3) then gB2 (t_X2_at (nI i) (nI 0) (nI 7) (tS σ s1)) fun x29 w28 => gB1 (tSt w28 5 x29 (-1)) fun w30 => gB2 (t_X2_becomes (nI i) (nI 2) w30) fun _ w31 => kLook (nI i) w31 else kLook (nI i) (tS σ s1) := by
      unfold t_X2_looksAt
      rw [ef1, pu_B2, pu_ld5 (by omega), pu_B1, hst, pu_Bd, if_pos hz0, z2, pu_B2]
      rfl
    have hnl : ∀ s' : Nat → Int32, s' (21 + 1262 * (i) + 1) ≠ nI 2 → kLook (nI i) (tS σ s') = some ((), tS σ s') := fun s' hs' => by
      unfold kLook
      rw [ef1, pu_B2, pu_ld5 (by omega), pu_B1, if_neg hs']
    obtain ⟨y1, y2⟩ := z6
    rcases z8 with ⟨rfl, rfl, k1, k2⟩ | ⟨rfl, rfl, k1, k2, k3⟩ | ⟨rfl, rfl, k1, k2, k3⟩
    · -- .. on
      refine ⟨w1, tg1, s1, some a, none, ?_, ?_, z3.mono (by omega), hF1, hQ1, ?_, Or.inl ⟨hst1, rfl, h51, a, rfl, k2, k1⟩⟩
      · rw [hfr 2, pu_Bd, if_neg (fun z => hc2 (Option.some.inj z)), if_neg (fun z => hc3 (Option.some.inj z))]
      · rw [htr, if_neg (by decide), if_neg (by decide)]
        exact hnl s1 (by rw [hst1]; decide)
      · unfold iRk iPh
        rw [if_pos hst1, if_pos hst]
        constructor <;> omega
    · -- .. to its end
      obtain ⟨w2, n1, n2, n3, n4, n5⟩ := sim_turns z3 (by omega) (st := 1) (by omega)
      rw [if_neg (by omega), if_neg (by omega)] at n3
      obtain ⟨q1, q2, q3, q4, -, q6⟩ := uTurn_q (st := 1) z3.2.2.2.2.2.2 (by omega)
      have ms : s1 0 = nI T ∧ T ≤ 100300 := by
        obtain ⟨-, -, -, -, ⟨du, fa, ins, fd, ff, fi, m1, m2, m3, m4, m5, m6, m7, m8, m9, m10, m11⟩, -⟩ := z3
        exact ⟨m10, m11⟩
      have hp : pPh i (uTurn i 1 s1) = pPh i s1 := pPh_eq (fun m _ => q2 m 0 (by omega))
      refine ⟨w2, tg1, uTurn i 1 s1, none, none, ?_, ?_, n3.mono (by omega), hF1.tr (n5.mono (fun t z => pP_notes t z)), hQ1.tr q1, ?_, Or.inr (Or.inr ⟨Or.inl q3, rfl, rfl, fun m h1 h2 => ?_, T, ms.2, (q6 (by omega)).trans ms.1⟩)⟩
      · rw [hfr 2, pu_Bd, if_pos rfl, pu_Ob own2, pu_B1, n1, pu_B2]
      · rw [htr, if_pos rfl, n2, pu_B2]
        exact hnl _ (by rw [q3]; decide)
      · unfold iRk iPh
        rw [hp, n4, if_pos hst, q3, if_neg (by decide)]
        constructor <;> omega
      · rw [q2 m 0 (by omega), q2 m 7 (by omega)]
        exact k2 m h1 h2
    · -- .. it breaks
      obtain ⟨s2, hs2⟩ : ∃ s2, upd s1 (21 + 1262 * (i) + (622 + 10 * (0) + 7)) (-1) = s2 := ⟨_, rfl⟩
      have h07 : s1 (21 + 1262 * (i) + (622 + 10 * (0) + 7)) = -1 := (k2 0 (Nat.le_refl _) hn0).1
      have hs21 : s2 = s1 := by
        rw [← hs2, ← h07]
        exact upd_id _ _
      obtain ⟨w2, tg2, ua, L, c1, c2, c3, c4, c5, c6⟩ := sim_comp z3 (by omega) hn0 hlv k3 h07 (by rw [z4.2.2.1]; omega) (by rw [z4.2.2.1]; omega)
      obtain ⟨q1, q2, q3, q4, q5, -⟩ := uTurn_q (st := 2) z3.2.2.2.2.2.2 (by omega)
      obtain ⟨w3, s3, un3, d1, d2, d3, d4, d5, d6, d7, d8, d9⟩ := sim_itail c3 (by omega) hn0 q3 ((q5 rfl).trans h51) (fun m hm => by
        rw [q2 m 0 (by omega), q2 m 7 (by omega)]
        have := k2 m (Nat.zero_le _) hm
        exact ⟨this.2.1, this.2.2, fun _ => this.1⟩) c6 (by omega)
      have hp : pPh i s3 = pPh i s1 := pPh_eq (fun m hm => (d7 m hm).trans (q2 m 0 (by omega)))
      have hw2 : w3.2 = (w1.2.1 + 3, w1.2.2.1 + 32, w1.2.2.2) := d4.trans c4
      have hw21 : w3.2.1 = w1.2.1 + 3 := by rw [hw2]
      have hw22 : w3.2.2.1 = w1.2.2.1 + 32 := by rw [hw2]
      refine ⟨w3, tg2, s3, none, un3, ?_, ?_, d3.mono (by omega), (hF1.tr (c5.mono (fun t z => pP_notes t z))).tr d5, (hQ1.tr q1).tr d6, ?_, d9⟩
      · rw [hfr 2, pu_Bd, if_neg (fun z => hc4 (Option.some.inj z).symm), if_pos rfl, pu_Ob own2, pu_B1, c1, d1 1, pu_B2, pu_B2]
      · rw [htr, if_neg (by decide), if_pos rfl, e7, pu_B2, pu_st5 (by omega), pu_B1, hs2, hs21, c2, pu_B2]
        exact d2
      · unfold iRk iPh
        rw [hp, if_pos hst, if_neg d8]
        constructor <;> omega
  · -- it is compensated
    have hu : uSt S xa ia i 0 ua L left tried til w tg s := by
      obtain ⟨v1, v2, v3, v4, v5, v6, U, v7, v8, v9⟩ := u3
      exact ⟨u1, u2, Or.inr ⟨v1, v2, v3, v4, v5, v6, U, v7, v9⟩⟩
    obtain ⟨w3, s3, un3, d1, d2, d3, d4, d5, d6, d7, d8, d9⟩ := sim_itail hW (by omega) hn0 hst h5 hd hu u3.2.2.1
    have hp : pPh i s3 = pPh i s := pPh_eq (fun m hm => d7 m hm)
    refine ⟨w3, tg, s3, none, un3, d1 2, ?_, d3.mono (by omega), d5, d6, ?_, d9⟩
    · have y : ¬ nI 2 = 0 := by decide
      unfold t_X2_looksAt
      rw [ef1, pu_B2, pu_ld5 (by omega), pu_B1, hst, pu_Bd, if_neg y]
      exact d2
    · unfold iRk iPh
      rw [hp, d4, if_neg d8]
      constructor <;> omega
  · -- it has ended
    have y0 : ¬ s (21 + 1262 * (i) + 1) = 0 := by rcases hst with z | z | z <;> rw [z] <;> decide
    have y2 : ¬ s (21 + 1262 * (i) + 1) = nI 2 := by rcases hst with z | z | z <;> rw [z] <;> decide
    refine ⟨w, tg, s, none, none, ?_, ?_, hW.mono (by omega), pFr.rf hW.bd, iQ.rf, ⟨Nat.le_refl _, Nat.le_refl _⟩, Or.inr (Or.inr ⟨hst, rfl, rfl, hd, t, ht, h5⟩)⟩
    · show f_X16_looks_s (f_X16_looks 2) ia w = _
      unfold f_X16_looks_s
      rw [pu_I (k := 9) own1 rfl, pu_B1, if_neg y0, pu_B1, if_neg y2]
    · unfold t_X2_looksAt
      rw [ef1, pu_B2, pu_ld5 (by omega), pu_B1, pu_Bd, if_neg y0]
      try dsimp only
      rw [ef1, pu_B2, pu_ld5 (by omega), pu_B1, if_neg y2]
end IL
