set_option maxRecDepth 100000
/-! A PARALLEL's RUN: cancels, both sides, body by body -/
theorem pPh_le {i : Nat} {s s1 : Nat → Int32} (h : ∀ n, n < 64 → s1 (21 + 1262 * (i) + (622 + 10 * (n) + 0)) = s (21 + 1262 * (i) + (622 + 10 * (n) + 0)) ∨ (s1 (21 + 1262 * (i) + (622 + 10 * (n) + 0)) ≠ nI 0 ∧ s1 (21 + 1262 * (i) + (622 + 10 * (n) + 0)) ≠ nI 1)) : pPh i s1 ≤ pPh i s := pSum_le _ (fun n hn => by
  show (if s1 (21 + 1262 * (i) + (622 + 10 * (n) + 0)) = nI 0 then 12 else if s1 (21 + 1262 * (i) + (622 + 10 * (n) + 0)) = nI 1 then 8 else 0) ≤ (if s (21 + 1262 * (i) + (622 + 10 * (n) + 0)) = nI 0 then 12 else if s (21 + 1262 * (i) + (622 + 10 * (n) + 0)) = nI 1 then 8 else 0)
  rcases h n hn with z | z
  · rw [z]; exact Nat.le_refl _
  · rw [if_neg z.1, if_neg z.2]; omega)
section PC
variable {S : SV} {σ : TS} {xa mo ia i ver T : Nat} {bo un : Option Nat}
theorem pW.uq {w : gw} {tg : pT} {s : Nat → Int32} {B : Nat} (h : pW S σ xa mo ia i ver T w tg s B bo un) : pUq S i s := by
  obtain ⟨-, -, -, -, -, ⟨va, pe, hi', dl, fv, fp, fh, i1, i2, i3, i4, i5, i6, i7, i8, i9, i10, i11, m, ea, mc, g, d1, d2, d3, d4, d5, d6, d7, d8, d9⟩, -⟩ := h
  exact d9
theorem pW.mi {w : gw} {tg : pT} {s : Nat → Int32} {B : Nat} (h : pW S σ xa mo ia i ver T w tg s B bo un) : mo ≠ ia := by
  obtain ⟨du, fa, ins, va, pe, hi2, dl, f10, f11, f12, c1, c2, -⟩ := h.cells
  exact ne_of c1 c2 (by simp)
/-- cells of one tag get another -/
theorem pW.retag {w : gw} {tg tg1 : pT} {s : Nat → Int32} {B : Nat} {X : Nat × Nat} (h : pW S σ xa mo ia i ver T w tg s B bo un) (hX0 : X ≠ (0, 100)) (hXi : ∀ j, 64 ≤ j → X ≠ (ia, j)) (hXm : ∀ j, j < 4 → X ≠ (mo, j)) (h1 : ∀ a e, w.1 a = some e → tg a ≠ X → tg1 a = tg a) (h2 : ∀ a, w.1 a = none → a < w.2.1 → tg1 a = tg a) : pW S σ xa mo ia i ver T w tg1 s B bo un := by
  obtain ⟨h3, hC, hO, hV, hM, hI, hE⟩ := h
  refine ⟨h3, ?_, hO.fr (fun a e ha ht => ⟨ha, (h1 a e ha (by rw [show tg a = (0, 100) from ht]; exact Ne.symm hX0)).trans ht⟩), hV, ?_, hI.fr (fun a e j ha hj hl => ⟨ha, h1 a e ha (by rw [hj]; exact (hXi j hl).symm)⟩) rfl, hE⟩
  · obtain ⟨c0, c1, c2⟩ := hC
    refine ⟨c0, fun j a b => ?_, c2⟩
    obtain ⟨k1, k2, k3⟩ := c1 j a b
    exact ⟨k1, (h2 _ k1 k3).trans k2, k3⟩
  · obtain ⟨du, fa, ins, fd, ff, fi, a1, a2, a3, a4, a5, a6, a7, a8, a9⟩ := hM
    have hm : ∀ a e j, j < 4 → w.1 a = some e → tg a = (mo, j) → tg1 a = (mo, j) := fun a e j hj ha ht => (h1 a e ha (by rw [ht]; exact (hXm j hj).symm)).trans ht
    exact ⟨du, fa, ins, fd, ff, fi, hm _ _ _ (by omega) a2 a1, a2, hm _ _ _ (by omega) a4 a3, a4, hm _ _ _ (by omega) a6 a5, a6, hm _ _ _ (by omega) a8 a7, a8, a9⟩
theorem kid_fr {n l j : Nat} {ptr out out1 : Nat → Option Nat} {w w1 : gw} {tg tg1 : pT} {s s1 : Nat → Int32} {q : Bool} {Tq : Nat} (hS : sWf S) (hnn : n < sEn S 0) (hk6 : sKd S n = 6) (hjc : j < sCc S n) (hW : aW w w1 tg tg1 ia (n + 1) (sEn S n)) (hK : w1.2.2.2 = w.2.2.2)
    (hs : aS i (sCh S n j) (sEn S (sCh S n j)) s s1) (hPe : pPe i s s1) (ho : out1 j = out j) (h : pKid S xa ia i l w tg s Tq q n ptr out j) : pKid S xa ia i l w1 tg1 s1 Tq q n ptr out1 j := by
  have hN := hS.2.2.2.2.2 n hnn
  obtain ⟨-, -, -, hch⟩ := par_ch hS hnn hk6
  have hi' := sNode_in hN hjc
  have hcN := sWf_lt hS hnn hjc
  obtain ⟨a', h1, h2, h3⟩ := h
  refine ⟨a', h1, (rB_fr (q := q) (q1 := q) (T := Tq) (T1 := Tq) hS hK (fun z => ⟨z, hPe⟩) (Nat.le_refl _) l).1 _ a' hcN (hch j hjc).1 (hW.sub (by omega) (by omega)) (aS.aY hS hcN hs) h2, ?_⟩
  rw [ho, hK, hs _ 0 (Nat.le_refl _) (by omega) (by omega)]
  exact h3
/-- the component's round behind the first half -/
def kCan (a0 : Nat) (k8 : Int32 → Option Nat → Int32 → gw → Option (Unit × gw)) (x25 : Int32) (r26 : Option Nat) (x27 : Int32) (w24 : gw) : Option (Unit × gw) := gB1 (gR w24 a0 22 4) fun r28 => gB1 r28 fun a29 => gB1 (gLdR w24 a29 6 x27) fun r30 => gBd (fun (x33 : Int32) (r34 : Option Nat) (x35 : Int32) (w32 : gw) => gBd (x35 + (nI 1)) fun x36 => k8 x33 r34 x36 w32) fun k31 => if r30 = (some (w24.2.2.2 4)) then gB1 (gR w24 a0 22 3) fun r38 => gB1 r38 fun a39 => gB1 (gLdR w24 a39 5 x27) fun r40 => gB1 r40 fun a41 => gB2 (f_Run_gathers 12 a41 r26 w24) fun _ w42 => k31 x25 r26 x27 w42 else k31 x25 r26 x27 w24
/-- a body that runs is cancelled -/
theorem can_stop {n l k a ba oa B : Nat} {ptr out : Nat → Option Nat} {w : gw} {tg : pT} {s : Nat → Int32} (hl3 : l ≤ 4) (hW : pW S σ xa mo ia i ver T w tg s B bo un) (hB : B < 2 ^ 31) (hnn : n < sEn S 0) (hk6 : sKd S n = 6) (hkc : k < sCc S n) (hc : pCell S xa ia n a ba oa none ptr out w tg) (hK : pKid S xa ia i l w tg s T true n ptr out k) (hst : s (21 + 1262 * (i) + (622 + 10 * (sCh S n k) + 0)) = nI 1) :
    ∃ w2 s2, (∀ KK x5 td, bf_X22_cancels_1 a KK x5 td (nI k) w = kCan a KK x5 td (nI k) w2) ∧ (∀ KK, bt_X2_cancelsBodies_1 KK (nI i) (nI k) (sAt S n k) (tS σ s) = KK (nI i) (nI (k + 1)) (sAt S n (k + 1)) (tS σ s2)) ∧ pW S σ xa mo ia i ver T w2 tg s2 (B + 1) bo un ∧ w2.2 = w.2 ∧ pFr w w2 tg tg (fun t => t = (ia, n) ∨ t = (ia, 64) ∨ t = (ia, 67)) ∧
      pQ i (sCh S n k) (sEn S (sCh S n k)) s s2 ∧ pPe i s s2 ∧ (∀ m, m < 64 → s2 (21 + 1262 * (i) + (622 + 10 * (m) + 0)) = s (21 + 1262 * (i) + (622 + 10 * (m) + 0)) ∨ s2 (21 + 1262 * (i) + (622 + 10 * (m) + 0)) = nI 4) ∧ pCell S xa ia n a ba oa none ptr (va_up out k (some (w.2.2.2 4))) w2 tg ∧ pKid S xa ia i l w2 tg s2 T true n ptr (va_up out k (some (w.2.2.2 4))) k ∧ s2 (21 + 1262 * (i) + (622 + 10 * (sCh S n k) + 0)) = nI 4 := by
  have hS : sWf S := hW.1.2.2.1
  have hNs : sEn S 0 ≤ 64 := hS.1
  have hi : i < 6 := hW.1.2.1
  have hia := hW.1.1
  have hN := hS.2.2.2.2.2 n hnn
  have hNn := hN.1.2.1
  have hmi := hW.mi
  obtain ⟨hc1, hc4, -, hch⟩ := par_ch hS hnn hk6
  have hi' := sNode_in hN hkc
  have hcN := sWf_lt hS hnn hkc
  obtain ⟨hkb, hlb⟩ := hch k hkc
  have hNb := hS.2.2.2.2.2 _ hcN
  obtain ⟨a', y1, y2, y3⟩ := hK
  have hout : out k = some (w.2.2.2 2) := by
    rcases y3 with z | z | z
    · exact z.1
    · exact absurd (hst.symm.trans z.2) (by decide)
    · rcases z.2 with z | z <;> exact absurd (hst.symm.trans z) (by decide)
  obtain ⟨sc, t1, t2⟩ := t_cancels hS hi hW.1.2.2.2 (2 * l + 2) 12 _ s (by omega) hcN hW.2.2.2.1 (Or.inl hst) ((cOK_of hS l).1 _ a' hcN hkb hst y2)
  have hE2 : cE2 i (sCh S n k) (sEn S (sCh S n k)) s sc := t2.2
  have hrow : ∀ m q, q < 10 → ¬ (sCh S n k ≤ m ∧ m < sEn S (sCh S n k)) → sc (21 + 1262 * (i) + (622 + 10 * (m) + q)) = s (21 + 1262 * (i) + (622 + 10 * (m) + q)) := fun m q hq hm => t2.1 _ (by omega)
  have hst2 : ∀ m x, x ≠ nI 4 ∧ x ≠ nI 1 ∧ x ≠ nI 5 → (sc (21 + 1262 * (i) + (622 + 10 * (m) + 0)) = x ↔ s (21 + 1262 * (i) + (622 + 10 * (m) + 0)) = x) := fun m x hx => by
    by_cases hm : sCh S n k ≤ m ∧ m < sEn S (sCh S n k)
    · exact hE2.st hm.1 hm.2 hx
    · rw [hrow m 0 (by omega) hm]
  have hkeep : ∀ m q, q < 10 → q ≠ 0 → q ≠ 7 → sc (21 + 1262 * (i) + (622 + 10 * (m) + q)) = s (21 + 1262 * (i) + (622 + 10 * (m) + q)) := fun m q h1 h2 h3 => by
    by_cases hm : sCh S n k ≤ m ∧ m < sEn S (sCh S n k)
    · exact (hE2 m hm.1 hm.2).1 q h1 h2 h3
    · exact hrow m q h1 hm
  have hWc : pW S σ xa mo ia i ver T w tg sc B bo un := hW.rows (fun j hj => t2.1 j (by omega)) (fun m hm _ => ⟨hst2 m _ (by decide), fun _ => ⟨hkeep m 5 (by omega) (by omega) (by omega), hkeep m 6 (by omega) (by omega) (by omega)⟩⟩)
  obtain ⟨w1, n1, n2, n3, n4, n5⟩ := sim_notes hWc hB (nI 10) (nI k)
  obtain ⟨a1, a2, a3, a4, a5, a6⟩ := hc
  have hPn : ¬ ((ia, n) = (ia, 64) ∨ (ia, n) = (ia, 67)) := by
    rintro (z | z)
    · have := congrArg Prod.snd z
      simp only at this
      omega
    · have := congrArg Prod.snd z
      simp only at this
      omega
  have b2 := (n5.at hW.bd a2 (by rw [a1]; exact hPn)).1
  have b4 := (n5.at hW.bd a4 (by rw [a3]; exact hPn)).1
  have b6 := (n5.at hW.bd a6 (by rw [a5]; exact hPn)).1
  have hK1 : w1.2.2.2 = w.2.2.2 := by rw [n4]
  have m1 : a ≠ oa := ne_of a2 a6 (by simp)
  have m2 : ba ≠ oa := ne_of a4 a6 (by simp)
  have hF2 : pFr w1 (hs w1 oa (.inr (6, sCc S n, .inr (va_up out k (some (w.2.2.2 4)))))) tg tg (fun t => t = (ia, n)) := pFr.hs n3.bd b6 a5
  have hF : pFr w (hs w1 oa (.inr (6, sCc S n, .inr (va_up out k (some (w.2.2.2 4)))))) tg tg (fun t => t = (ia, n) ∨ t = (ia, 64) ∨ t = (ia, 67)) := (n5.mono (fun t z => Or.inr z)).tr (hF2.mono (fun t z => Or.inl z))
  have hE := hWc.2.2.2.2.2.2
  have hnrow : ∀ j, j ≠ (21 + 1262 * (i) + 9) → (j < (21 + 1262 * (i) + 22) ∨ (21 + 1262 * (i) + 622) ≤ j) → uNotes i (nI 10) (nI k) sc j = sc j := fun j h1 h2 => uNotes_ne hE hB h1 h2
  have hnode : ∀ m q, q < 10 → uNotes i (nI 10) (nI k) sc (21 + 1262 * (i) + (622 + 10 * (m) + q)) = sc (21 + 1262 * (i) + (622 + 10 * (m) + q)) := fun m q hq => hnrow _ (by omega) (by omega)
  have hPe2 : pPe i sc (uNotes i (nI 10) (nI k) sc) := fun c hc hz => (hnrow _ (by omega) (by omega)).trans hz
  have hc2 : pCell S xa ia n a ba oa none ptr (va_up out k (some (w.2.2.2 4))) (hs w1 oa (.inr (6, sCc S n, .inr (va_up out k (some (w.2.2.2 4)))))) tg := ⟨a1, (hs_ne m1).trans b2, a3, (hs_ne m2).trans b4, a5, hs_self _ _ _⟩
  have hst4 : sc (21 + 1262 * (i) + (622 + 10 * (sCh S n k) + 0)) = nI 4 := (hE2 _ (Nat.le_refl _) hi'.2.2.1).2.2.1 (Or.inl hst)
  have hkid : pKid S xa ia i l w tg sc T true n ptr (va_up out k (some (w.2.2.2 4))) k := ⟨a', y1, (rB_eff hS l).1 _ a' hcN hkb hE2 y2, Or.inr (Or.inr ⟨by rw [va_up_self], Or.inr hst4⟩)⟩
  have hkid2 : pKid S xa ia i l (hs w1 oa (.inr (6, sCc S n, .inr (va_up out k (some (w.2.2.2 4)))))) tg (uNotes i (nI 10) (nI k) sc) T true n ptr (va_up out k (some (w.2.2.2 4))) k := by
    refine kid_fr hS hnn hk6 hkc (hF.aW hW.bd (fun t ht z => ?_)) hF.2.2.1 (fun m q _ _ h3 => hnode m q h3) hPe2 rfl hkid
    rcases z with z | z | z
    · rcases ht with ht | ht
      · rw [z] at ht
        have := ht.2.1
        simp only at this
        omega
      · rw [ht] at z
        exact hia (congrArg Prod.fst z).symm
    · rcases ht with ht | ht
      · rw [z] at ht
        have := ht.2.2
        simp only at this
        omega
      · rw [ht] at z
        exact hia (congrArg Prod.fst z).symm
    · rcases ht with ht | ht
      · rw [z] at ht
        have := ht.2.2
        simp only at this
        omega
      · rw [ht] at z
        exact hia (congrArg Prod.fst z).symm
  obtain ⟨va, fv, f1, f2, f3, f5, f6, f7, f8, f9, f10, f11, f12, f13, f14, f15, c2, -⟩ := hW.vars
  refine ⟨hs w1 oa (.inr (6, sCc S n, .inr (va_up out k (some (w.2.2.2 4))))), uNotes i (nI 10) (nI k) sc, fun KK x5 td => ?_, fun KK => ?_, n3.put b6 a5 (by omega), n4, hF, ?_, ?_, ?_, hc2, hkid2, (hnode _ 0 (by omega)).trans hst4⟩
  · have hcan := (can_K n3.2.1).2.2
    unfold bf_X22_cancels_1
    rw [pu_R (k := 3) a2 rfl, pu_B1, pu_B1, pu_Len a4, pu_B1, if_neg (nI_ge hkc (by omega)), pu_R (k := 4) a2 rfl, pu_B1, pu_B1, pu_LdR a6 hkc (by omega), pu_B1, hout, pu_Bd, if_pos rfl, pu_R (k := 0) a2 rfl, pu_B1, pu_B1, pu_Ob c2, pu_B1, n1, pu_B2, pu_R (k := 4) b2 rfl, pu_B1, pu_B1, pu_StR b6 hkc (by omega) hcan, pu_B1, hK1]
    rfl
  · have e0 : ∀ w : TS, t_X2_at (nI i) (nI (sCh S n k)) (nI 0) w = _ := fun w => pt_at w
    have k6 := n3.np (n := sCh S n k) (k := 6) hcN (by omega)
    rw [(hN.1.2.2.2.2.2 k hkc).2.2.1] at k6
    have e1 : sAt S n k = nI (sCh S n k) := by
      unfold sAt
      rw [if_pos hkc]
    have e2 : ¬ nI (sCh S n k) < 0 := nI_pos (by omega)
    unfold bt_X2_cancelsBodies_1
    rw [e1, if_neg e2, e0, pu_B2, pu_ld5 (by omega), pu_B1, hst, pu_Bd, if_pos rfl, t1, pu_B2, n2, pu_B2]
    try dsimp only
    rw [pu_Bd, k6, pu_B2, nI_add]
  · intro j h1 h2 h3
    rw [hnrow j (by omega) (by omega)]
    exact t2.1 j (by omega)
  · intro c hc hz
    rw [hnrow _ (by omega) (by omega), t2.1 _ (by omega)]
    exact hz
  · intro m hm
    rw [hnode m 0 (by omega)]
    by_cases hm' : sCh S n k ≤ m ∧ m < sEn S (sCh S n k)
    · obtain ⟨-, -, g3, g4⟩ := hE2 m hm'.1 hm'.2
      by_cases hl : rLive i s m
      · exact Or.inr (g3 hl)
      · exact Or.inl (g4 hl)
    · exact Or.inl (hrow m 0 (by omega) hm')
/-- a body that is not cancelled: the first half does nothing -/
theorem can_pass {n l k a ba oa B : Nat} {ptr out : Nat → Option Nat} {w : gw} {tg : pT} {s : Nat → Int32} (hW : pW S σ xa mo ia i ver T w tg s B bo un) (hnn : n < sEn S 0) (hk6 : sKd S n = 6) (hkc : k < sCc S n) (hc : pCell S xa ia n a ba oa none ptr out w tg) (hK : pKid S xa ia i l w tg s T true n ptr out k) (hst : s (21 + 1262 * (i) + (622 + 10 * (sCh S n k) + 0)) ≠ nI 1) :
    (∀ KK x5 td, bf_X22_cancels_1 a KK x5 td (nI k) w = kCan a KK x5 td (nI k) w) ∧ (∀ KK, bt_X2_cancelsBodies_1 KK (nI i) (nI k) (sAt S n k) (tS σ s) = KK (nI i) (nI (k + 1)) (sAt S n (k + 1)) (tS σ s)) := by
  have hS : sWf S := hW.1.2.2.1
  have hNs : sEn S 0 ≤ 64 := hS.1
  have hi : i < 6 := hW.1.2.1
  have hN := hS.2.2.2.2.2 n hnn
  obtain ⟨hc1, hc4, -, hch⟩ := par_ch hS hnn hk6
  have hi' := sNode_in hN hkc
  have hcN := sWf_lt hS hnn hkc
  obtain ⟨a', y1, y2, y3⟩ := hK
  obtain ⟨a1, a2, a3, a4, a5, a6⟩ := hc
  obtain ⟨-, -, h2, h3, h4⟩ := hW.2.1
  have hout : ¬ out k = some (w.2.2.2 2) := by
    rcases y3 with z | z | z
    · exact absurd z.2 hst
    · rw [z.1]; intro y; exact h2 (Option.some.inj y).symm
    · rw [z.1]; intro y; exact h3 (Option.some.inj y).symm
  refine ⟨fun KK x5 td => ?_, fun KK => ?_⟩
  · unfold bf_X22_cancels_1
    rw [pu_R (k := 3) a2 rfl, pu_B1, pu_B1, pu_Len a4, pu_B1, if_neg (nI_ge hkc (by omega)), pu_R (k := 4) a2 rfl, pu_B1, pu_B1, pu_LdR a6 hkc (by omega), pu_B1, pu_Bd, if_neg hout]
    rfl
  · have e0 : ∀ w : TS, t_X2_at (nI i) (nI (sCh S n k)) (nI 0) w = _ := fun w => pt_at w
    have k6 := hW.np (n := sCh S n k) (k := 6) hcN (by omega)
    rw [(hN.1.2.2.2.2.2 k hkc).2.2.1] at k6
    have e1 : sAt S n k = nI (sCh S n k) := by
      unfold sAt
      rw [if_pos hkc]
    have e2 : ¬ nI (sCh S n k) < 0 := nI_pos (by omega)
    unfold bt_X2_cancelsBodies_1
    rw [e1, if_neg e2, e0, pu_B2, pu_ld5 (by omega), pu_B1, pu_Bd, if_neg hst]
    try dsimp only
    rw [pu_Bd, k6, pu_B2, nI_add]
/-- the list of what is gathered, as a frame -/
theorem gL_fr {w : gw} {tg : pT} {td da : Nat} {X : Nat × Nat} {L0 L : List Nat} {f0 f : Nat → Int32} (hb : pBd w) (t1 : tg td = X) (t2 : tg da = X) (h1 : w.1 td = some (.inl (19, [ga (some da), gi (nI L0.length)]))) (h2 : w.1 da = some (.inr (0, 24, .inl f0))) : pFr w (gL w td da L f) tg tg (fun t => t = X) := by
  have hne : da ≠ td := ne_of h2 h1 (by simp)
  have hF1 : pFr w (hs w da (.inr (0, 24, .inl f))) tg tg (fun t => t = X) := pFr.hs hb h2 t2
  exact hF1.tr (pFr.hs hF1.1 ((hs_ne hne.symm).trans h1) t1)
/-- the second half: what was done in a body that broke -/
theorem can_gath {n l k a ba oa td da X B : Nat} {ptr out : Nat → Option Nat} {w : gw} {tg : pT} {s : Nat → Int32} {L : List Nat} {f : Nat → Int32} (hl3 : l ≤ 4) (hW : pW S σ xa mo ia i ver T w tg s B bo un) (hnn : n < sEn S 0) (hk6 : sKd S n = 6) (hkc : k < sCc S n) (hc : pCell S xa ia n a ba oa none ptr out w tg) (hK : pKid S xa ia i l w tg s T true n ptr out k) (hst : s (21 + 1262 * (i) + (622 + 10 * (sCh S n k) + 0)) ≠ nI 1)
    (hX0 : X ≠ 0) (hXi : X ≠ ia) (t1 : tg td = (X, 0)) (t2 : tg da = (X, 0)) (h1 : w.1 td = some (.inl (19, [ga (some da), gi (nI L.length)]))) (h2 : w.1 da = some (.inr (0, 24, .inl f))) (hL : dL L f) (hd : ∀ x, rDone S i s (sCh S n k) (sEn S (sCh S n k)) x → x ∉ L) :
    ∃ L1 f1, (∀ KK x5, kCan a KK x5 (some td) (nI k) w = KK x5 (some td) (nI (k + 1)) (gL w td da L1 f1)) ∧ dL L1 f1 ∧ ∀ x, x ∈ L1 ↔ x ∈ L ∨ (s (21 + 1262 * (i) + (622 + 10 * (sCh S n k) + 0)) = nI 3 ∨ s (21 + 1262 * (i) + (622 + 10 * (sCh S n k) + 0)) = nI 4) ∧ rDone S i s (sCh S n k) (sEn S (sCh S n k)) x := by
  have hS : sWf S := hW.1.2.2.1
  have hN := hS.2.2.2.2.2 n hnn
  obtain ⟨hc1, hc4, -, hch⟩ := par_ch hS hnn hk6
  have hcN := sWf_lt hS hnn hkc
  obtain ⟨a', y1, y2, y3⟩ := hK
  obtain ⟨a1, a2, a3, a4, a5, a6⟩ := hc
  obtain ⟨-, -, g2, g3, g4⟩ := hW.2.1
  rcases y3 with z | z | z
  · exact absurd z.2 hst
  · refine ⟨L, f, fun KK x5 => ?_, hL, fun x => ⟨Or.inl, ?_⟩⟩
    · have hout : ¬ out k = some (w.2.2.2 4) := by rw [z.1]; intro y; exact g4 (Option.some.inj y)
      unfold kCan
      rw [gL_id h1 h2, pu_R (k := 4) a2 rfl, pu_B1, pu_B1, pu_LdR a6 hkc (by omega), pu_B1, pu_Bd, if_neg hout]
      try dsimp only
      rw [pu_Bd, nI_add]
    · rintro (y | ⟨y, -⟩)
      · exact y
      · rw [z.2] at y
        exact absurd y (by decide)
  · have ht : gTo w tg ia (sCh S n k) (sEn S (sCh S n k)) td da := ⟨⟨_, h1⟩, ⟨_, h2⟩, by rw [t1]; intro y; exact hX0 (congrArg Prod.fst y), by rw [t2]; intro y; exact hX0 (congrArg Prod.fst y), by rw [t1]; intro y; exact hXi y.1, by rw [t2]; intro y; exact hXi y.1⟩
    have hg := (gath (q := true) (T := T) (xa := xa) (ia := ia) (tg := tg) (w := w) (to := td) (da := da) hS hW.uq l).1 12 _ a' (by omega) hcN (hch k hkc).1 ht y2 L f hL hd
    rw [gL_id h1 h2] at hg
    obtain ⟨f1, L1, p1, p2, p3⟩ := hg
    refine ⟨L1, f1, fun KK x5 => ?_, p2, fun x => ?_⟩
    · unfold kCan
      rw [pu_R (k := 4) a2 rfl, pu_B1, pu_B1, pu_LdR a6 hkc (by omega), pu_B1, z.1, pu_Bd, if_pos rfl, pu_R (k := 3) a2 rfl, pu_B1, pu_B1, pu_LdR a4 hkc (by omega), pu_B1, y1, pu_B1, p1, pu_B2]
      try dsimp only
      rw [pu_Bd, nI_add]
    · rw [p3 x]
      constructor
      · rintro (y | y)
        · exact Or.inr ⟨z.2, y⟩
        · exact Or.inl y
      · rintro (y | y)
        · exact Or.inr y
        · exact Or.inl y.2
/-- what was gathered of the first k bodies -/
def gK1 (S : SV) (i n : Nat) (s : Nat → Int32) (L : List Nat) (k : Nat) : Prop := ∀ x, x ∈ L ↔ ∃ j, j < k ∧ (s (21 + 1262 * (i) + (622 + 10 * (sCh S n j) + 0)) = nI 3 ∨ s (21 + 1262 * (i) + (622 + 10 * (sCh S n j) + 0)) = nI 4) ∧ rDone S i s (sCh S n j) (sEn S (sCh S n j)) x
theorem can_loop {n l a ba oa td da X : Nat} {ptr : Nat → Option Nat} {tg : pT} {x5 : Int32} (hl3 : l ≤ 4) (hnn : n < sEn S 0) (hk6 : sKd S n = 6) (hX0 : X ≠ 0) (hXi : X ≠ ia) (hXm : X ≠ mo) (t1 : tg td = (X, 0)) (t2 : tg da = (X, 0)) : ∀ (r k f1 f2 : Nat), k + r = sCc S n → r < f1 → r < f2 → ∀ (w : gw) (s : Nat → Int32) (B : Nat) (out : Nat → Option Nat) (L : List Nat) (f : Nat → Int32), pW S σ xa mo ia i ver T w tg s B bo un → B + r < 2 ^ 31 → pCell S xa ia n a ba oa none ptr out w tg → (∀ j, j < sCc S n → pKid S xa ia i l w tg s T true n ptr out j) → (∀ j, j < k → s (21 + 1262 * (i) + (622 + 10 * (sCh S n j) + 0)) ≠ nI 1) →
    w.1 td = some (.inl (19, [ga (some da), gi (nI L.length)])) → w.1 da = some (.inr (0, 24, .inl f)) → dL L f → gK1 S i n s L k →
    ∃ w1 s1 out1 L1 f1' fu, gL3 (bf_X22_cancels_1 a) f1 x5 (some td) (nI k) w = gL3 (bf_X22_cancels_1 a) fu x5 (some td) (nI (sCc S n)) w1 ∧ 1 ≤ fu ∧ gL3 bt_X2_cancelsBodies_1 f2 (nI i) (nI k) (sAt S n k) (tS σ s) = some ((), tS σ s1) ∧ pW S σ xa mo ia i ver T w1 tg s1 (B + r) bo un ∧ w1.2 = w.2 ∧ pFr w w1 tg tg (fun t => (t = (ia, n) ∨ t = (ia, 64) ∨ t = (ia, 67)) ∨ t = (X, 0)) ∧ pQ i (n + 1) (sEn S n) s s1 ∧ pPe i s s1 ∧ (∀ m, m < 64 → s1 (21 + 1262 * (i) + (622 + 10 * (m) + 0)) = s (21 + 1262 * (i) + (622 + 10 * (m) + 0)) ∨ s1 (21 + 1262 * (i) + (622 + 10 * (m) + 0)) = nI 4) ∧ (∀ j, j < sCc S n → s (21 + 1262 * (i) + (622 + 10 * (sCh S n j) + 0)) ≠ nI 1 → s1 (21 + 1262 * (i) + (622 + 10 * (sCh S n j) + 0)) = s (21 + 1262 * (i) + (622 + 10 * (sCh S n j) + 0))) ∧
      pCell S xa ia n a ba oa none ptr out1 w1 tg ∧ (∀ j, j < sCc S n → pKid S xa ia i l w1 tg s1 T true n ptr out1 j) ∧ (∀ j, j < sCc S n → s1 (21 + 1262 * (i) + (622 + 10 * (sCh S n j) + 0)) ≠ nI 1) ∧ w1.1 td = some (.inl (19, [ga (some da), gi (nI L1.length)])) ∧ w1.1 da = some (.inr (0, 24, .inl f1')) ∧ dL L1 f1' ∧ gK1 S i n s1 L1 (sCc S n) := by
  intro r
  induction r with
  | zero =>
    intro k f1 f2 hk hf1 hf2 w s B out L f hW hB hc hK hst h1 h2 hL hG
    obtain ⟨fu, rfl⟩ : ∃ fu, f2 = fu + 1 := ⟨f2 - 1, by omega⟩
    obtain rfl : k = sCc S n := by omega
    refine ⟨w, s, out, L, f, f1, rfl, by omega, ?_, hW, rfl, pFr.rf hW.bd, pQ.rf, fun _ _ z => z, fun _ _ => Or.inl rfl, fun _ _ _ => rfl, hc, hK, hst, h1, h2, hL, hG⟩
    have e1 : sAt S n (sCc S n) = -1 := by
      unfold sAt
      rw [if_neg (by omega)]
    show bt_X2_cancelsBodies_1 (gL3 bt_X2_cancelsBodies_1 fu) _ _ _ _ = _
    generalize gL3 bt_X2_cancelsBodies_1 fu = KK
    unfold bt_X2_cancelsBodies_1
    rw [e1, if_pos (by decide)]
  | succ r ih =>
    intro k f1 f2 hk hf1 hf2 w s B out L f hW hB hc hK hst h1 h2 hL hG
    obtain ⟨fu, rfl⟩ : ∃ fu, f2 = fu + 1 := ⟨f2 - 1, by omega⟩
    obtain ⟨fv, rfl⟩ : ∃ fv, f1 = fv + 1 := ⟨f1 - 1, by omega⟩
    have hkc : k < sCc S n := by omega
    have hS : sWf S := hW.1.2.2.1
    have hNs : sEn S 0 ≤ 64 := hS.1
    have hi : i < 6 := hW.1.2.1
    have hia := hW.1.1
    have hN := hS.2.2.2.2.2 n hnn
    have hNn := hN.1.2.1
    have hi' := sNode_in hN hkc
    have hcN := sWf_lt hS hnn hkc
    -- the first half
    obtain ⟨w2, s2, out2, c1, c2, c3, c4, c5, c6, c7, c8, c9, c10, c11, c12, c13⟩ : ∃ w2 s2 out2, (∀ KK x5 td, bf_X22_cancels_1 a KK x5 td (nI k) w = kCan a KK x5 td (nI k) w2) ∧ (∀ KK, bt_X2_cancelsBodies_1 KK (nI i) (nI k) (sAt S n k) (tS σ s) = KK (nI i) (nI (k + 1)) (sAt S n (k + 1)) (tS σ s2)) ∧ pW S σ xa mo ia i ver T w2 tg s2 (B + 1) bo un ∧ w2.2 = w.2 ∧ pFr w w2 tg tg (fun t => t = (ia, n) ∨ t = (ia, 64) ∨ t = (ia, 67)) ∧
        pQ i (sCh S n k) (sEn S (sCh S n k)) s s2 ∧ pPe i s s2 ∧ (∀ m, m < 64 → s2 (21 + 1262 * (i) + (622 + 10 * (m) + 0)) = s (21 + 1262 * (i) + (622 + 10 * (m) + 0)) ∨ s2 (21 + 1262 * (i) + (622 + 10 * (m) + 0)) = nI 4) ∧ pCell S xa ia n a ba oa none ptr out2 w2 tg ∧ pKid S xa ia i l w2 tg s2 T true n ptr out2 k ∧ s2 (21 + 1262 * (i) + (622 + 10 * (sCh S n k) + 0)) ≠ nI 1 ∧ (∀ j, j ≠ k → out2 j = out j) ∧ (s (21 + 1262 * (i) + (622 + 10 * (sCh S n k) + 0)) ≠ nI 1 → s2 (21 + 1262 * (i) + (622 + 10 * (sCh S n k) + 0)) = s (21 + 1262 * (i) + (622 + 10 * (sCh S n k) + 0))) := by
      by_cases hx : s (21 + 1262 * (i) + (622 + 10 * (sCh S n k) + 0)) = nI 1
      · obtain ⟨w2, s2, c1, c2, c3, c4, c5, c6, c7, c8, c9, c10, c11⟩ := can_stop hl3 hW (by omega) hnn hk6 hkc hc (hK k hkc) hx
        exact ⟨w2, s2, _, c1, c2, c3, c4, c5, c6, c7, c8, c9, c10, by rw [c11]; decide, fun j hj => va_up_ne _ _ hj, fun z => absurd hx z⟩
      · obtain ⟨c1, c2⟩ := can_pass hW hnn hk6 hkc hc (hK k hkc) hx
        exact ⟨w, s, out, c1, c2, hW.mono (by omega), rfl, pFr.rf hW.bd, pQ.rf, fun _ _ z => z, fun _ _ => Or.inl rfl, hc, hK k hkc, hx, fun _ _ => rfl, fun _ => rfl⟩
    have hPd : ¬ ((X, 0) = (ia, n) ∨ (X, 0) = (ia, 64) ∨ (X, 0) = (ia, 67)) := by
      rintro (z | z | z) <;> exact hXi (congrArg Prod.fst z)
    have g1 := (c5.at hW.bd h1 (by rw [t1]; exact hPd)).1
    have g2 := (c5.at hW.bd h2 (by rw [t2]; exact hPd)).1
    have haW : ∀ t : Nat × Nat, (t.1 = ia ∧ n + 1 ≤ t.2 ∧ t.2 < sEn S n ∨ t = (0, 100)) → ¬ (t = (ia, n) ∨ t = (ia, 64) ∨ t = (ia, 67)) := by
      intro t ht z
      rcases z with z | z | z <;> rcases ht with ht | ht
      · rw [z] at ht
        have := ht.2.1
        simp only at this
        omega
      · rw [ht] at z
        exact hia (congrArg Prod.fst z).symm
      · rw [z] at ht
        have := ht.2.2
        simp only at this
        omega
      · rw [ht] at z
        exact hia (congrArg Prod.fst z).symm
      · rw [z] at ht
        have := ht.2.2
        simp only at this
        omega
      · rw [ht] at z
        exact hia (congrArg Prod.fst z).symm
    have hrow : ∀ j, j < sCc S n → j ≠ k → aS i (sCh S n j) (sEn S (sCh S n j)) s s2 := fun j hj hjk => by
      have hap := kid_apart hN hj hkc hjk
      have hi2 := sNode_in hN hj
      exact pQ_aS c6 (by omega) hap
    have hK2 : ∀ j, j < sCc S n → pKid S xa ia i l w2 tg s2 T true n ptr out2 j := fun j hj => by
      by_cases hjk : j = k
      · rw [hjk]; exact c10
      · exact kid_fr hS hnn hk6 hj (c5.aW hW.bd haW) c5.2.2.1 (hrow j hj hjk) c7 (c12 j hjk) (hK j hj)
    have hst2 : ∀ j, j < k → s2 (21 + 1262 * (i) + (622 + 10 * (sCh S n j) + 0)) = s (21 + 1262 * (i) + (622 + 10 * (sCh S n j) + 0)) := fun j hj => by
      have hi2 := sNode_in hN (j := j) (by omega)
      exact hrow j (by omega) (by omega) _ 0 (Nat.le_refl _) hi2.2.2.1 (by omega)
    have hG2 : gK1 S i n s2 L k := fun x => by
      rw [hG x]
      constructor
      · rintro ⟨j, z1, z2, z3⟩
        refine ⟨j, z1, by rw [hst2 j z1]; exact z2, (rDone_st (fun m m1 m2 _ => ⟨hrow j (by omega) (by omega) m 0 m1 m2 (by omega), hrow j (by omega) (by omega) m 5 m1 m2 (by omega)⟩)).mpr z3⟩
      · rintro ⟨j, z1, z2, z3⟩
        refine ⟨j, z1, by rw [← hst2 j z1]; exact z2, (rDone_st (fun m m1 m2 _ => ⟨hrow j (by omega) (by omega) m 0 m1 m2 (by omega), hrow j (by omega) (by omega) m 5 m1 m2 (by omega)⟩)).mp z3⟩
    -- the second half
    obtain ⟨L3, f3, p1, p2, p3⟩ := can_gath hl3 c3 hnn hk6 hkc c9 c10 c11 hX0 hXi t1 t2 g1 g2 hL (fun x hx hm => by
      obtain ⟨j, z1, z2, z3⟩ := (hG2 x).mp hm
      have hi2 := sNode_in hN (j := j) (by omega)
      have hap := kid_apart hN (j := j) (k := k) (by omega) hkc (by omega)
      obtain ⟨m, m1, m2, m3, m4⟩ := rDone_uq c3.uq (by omega) (by omega) hx z3
      omega)
    have hne : da ≠ td := ne_of g2 g1 (by simp)
    have hF3 : pFr w2 (gL w2 td da L3 f3) tg tg (fun t => t = (X, 0)) := gL_fr c3.bd t1 t2 g1 g2
    have hW3 : pW S σ xa mo ia i ver T (gL w2 td da L3 f3) tg s2 (B + 1) bo un := c3.fr hF3 (fun z => hX0 (congrArg Prod.fst z).symm) (fun j z => hXm (congrArg Prod.fst z).symm) (fun j _ z => hXi (congrArg Prod.fst z).symm)
    have hc3 : pCell S xa ia n a ba oa none ptr out2 (gL w2 td da L3 f3) tg := by
      obtain ⟨a1, a2, a3, a4, a5, a6⟩ := c9
      have hz : ¬ ((ia, n) = (X, 0)) := fun z => hXi (congrArg Prod.fst z).symm
      exact ⟨a1, (hF3.at c3.bd a2 (by rw [a1]; exact hz)).1, a3, (hF3.at c3.bd a4 (by rw [a3]; exact hz)).1, a5, (hF3.at c3.bd a6 (by rw [a5]; exact hz)).1⟩
    have hK3 : ∀ j, j < sCc S n → pKid S xa ia i l (gL w2 td da L3 f3) tg s2 T true n ptr out2 j := fun j hj => kid_fr hS hnn hk6 hj (hF3.aW c3.bd (fun t ht z => by
      rw [z] at ht
      rcases ht with ht | ht
      · exact hXi ht.1
      · exact hX0 (congrArg Prod.fst ht))) rfl (fun _ _ _ _ _ => rfl) (fun _ _ z => z) rfl (hK2 j hj)
    have hG3 : gK1 S i n s2 L3 (k + 1) := fun x => by
      rw [p3 x, hG2 x]
      constructor
      · rintro (⟨j, z1, z2⟩ | z)
        · exact ⟨j, by omega, z2⟩
        · exact ⟨k, by omega, z⟩
      · rintro ⟨j, z1, z2⟩
        by_cases hjk : j = k
        · rw [hjk] at z2
          exact Or.inr z2
        · exact Or.inl ⟨j, by omega, z2⟩
    obtain ⟨w1, s1, out1, L1, f1', fu', r1, r2, r3, r4, r5, r6, r7, r8, r9, r10, r11, r12, r13, r14, r15, r16, r17⟩ := ih (k + 1) fv fu (by omega) (by omega) (by omega) (gL w2 td da L3 f3) s2 (B + 1) out2 L3 f3 hW3 (by omega) hc3 hK3 (fun j hj => by
      by_cases hjk : j = k
      · rw [hjk]; exact c11
      · rw [hst2 j (by omega)]
        exact hst j (by omega)) (hs_self _ _ _) ((hs_ne hne).trans (hs_self _ _ _)) p2 hG3
    refine ⟨w1, s1, out1, L1, f1', fu', ?_, r2, ?_, r4.mono (by omega), r5.trans c4, ((c5.mono (fun t z => Or.inl z)).tr (hF3.mono (fun t z => Or.inr z))).tr r6, (c6.mono (by omega) (by omega)).tr r7, fun c hc z => r8 c hc (c7 c hc z), fun m hm => ?_, fun j hj z => ?_, r11, r12, r13, r14, r15, r16, r17⟩
    · rw [← r1]
      show bf_X22_cancels_1 a (gL3 (bf_X22_cancels_1 a) fv) x5 (some td) (nI k) w = _
      rw [c1, p1]
    · rw [← r3]
      show bt_X2_cancelsBodies_1 (gL3 bt_X2_cancelsBodies_1 fu) (nI i) (nI k) (sAt S n k) (tS σ s) = _
      rw [c2]
    · rcases r9 m hm with z | z
      · rw [z]; exact c8 m hm
      · exact Or.inr z
    · have h5 : s2 (21 + 1262 * (i) + (622 + 10 * (sCh S n j) + 0)) = s (21 + 1262 * (i) + (622 + 10 * (sCh S n j) + 0)) := by
        by_cases hjk : j = k
        · subst hjk
          exact c13 z
        · have hi2 := sNode_in hN hj
          exact hrow j hj hjk _ 0 (Nat.le_refl _) hi2.2.2.1 (by omega)
      rw [r10 j hj (by rw [h5]; exact z), h5]
end PC
