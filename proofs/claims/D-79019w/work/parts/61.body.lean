set_option maxRecDepth 100000
/-! A BODY's RUN -/
/-- a body's new run; an item's -/
def rBf (S : SV) (xa ia : Nat) (w : gw) (tg : pT) (b a : Nat) : Prop := tg a = (ia, b) ∧ ∃ (dd da : Nat) (f : Nat → Int32), w.1 a = some (.inl (18, [ga (some ia), ga (some xa), ga (some (sSa S b)), ga none, gi (nI 0), ga (some dd), ga (some xa)])) ∧ tg dd = (ia, b) ∧ w.1 dd = some (.inl (19, [ga (some da), gi (nI 0)])) ∧ tg da = (ia, b) ∧ w.1 da = some (.inr (0, 24, .inl f))
def rFr (S : SV) (xa ia i : Nat) (w : gw) (tg : pT) (s : Nat → Int32) (T n a : Nat) : Prop := (1 ≤ sKd S n ∧ sKd S n ≤ 4 ∧ rFrL S xa ia w tg T n a) ∨
  (sKd S n = 5 ∧ ∃ j c, j < 2 ∧ c < 4 ∧ sP S n 1 = nI c ∧ (s (21 + 1262 * (i) + (10 + c)) < sP S n 2 ∧ j = 0 ∨ ¬ s (21 + 1262 * (i) + (10 + c)) < sP S n 2 ∧ j = 1) ∧ rBf S xa ia w tg (sCh S n j) a) ∨
  (sKd S n = 6 ∧ tg a = (ia, n) ∧ ∃ ba oa, w.1 a = some (.inl (22, [ga (some ia), ga (some xa), ga (some (sSa S n)), ga (some ba), ga (some oa), ga none, ga (some xa)])) ∧ tg ba = (ia, n) ∧ w.1 ba = some (.inr (5, sCc S n, .inr (fun _ => none))) ∧ tg oa = (ia, n) ∧ w.1 oa = some (.inr (6, sCc S n, .inr (fun _ => none))))
theorem rBf.fr {S : SV} {xa ia lo hi b a : Nat} {w w1 : gw} {tg tg1 : pT} (h : rBf S xa ia w tg b a) (hW : aW w w1 tg tg1 ia lo hi) (h1 : lo ≤ b) (h2 : b < hi) : rBf S xa ia w1 tg1 b a := by
  obtain ⟨a1, dd, da, f, a2, a3, a4, a5, a6⟩ := h
  have b1 := hW.at a2 a1 h1 h2
  have b2 := hW.at a4 a3 h1 h2
  have b3 := hW.at a6 a5 h1 h2
  exact ⟨b1.2, dd, da, f, b1.1, b2.2, b2.1, b3.2, b3.1⟩
theorem rFr.fr {S : SV} {xa ia i T n a : Nat} {w w1 : gw} {tg tg1 : pT} {s : Nat → Int32} (hS : sWf S) (hn : n < sEn S 0) (h : rFr S xa ia i w tg s T n a) (hW : aW w w1 tg tg1 ia n (sEn S n)) : rFr S xa ia i w1 tg1 s T n a := by
  have hN := hS.2.2.2.2.2 n hn
  have hl := hN.1.1
  rcases h with ⟨k1, k2, h1, h⟩ | ⟨h0, j, c, h1, h2, h3, h4, h5⟩ | ⟨h0, h1, ba, oa, h2, h3, h4, h5, h6⟩
  · refine Or.inl ⟨k1, k2, ?_⟩
    rcases h with ⟨h2, h3⟩ | ⟨h2, h3⟩ | ⟨h2, h3⟩ | ⟨h2, h3⟩
    · have b1 := hW.at h3 h1 (Nat.le_refl _) hl
      exact ⟨b1.2, Or.inl ⟨h2, b1.1⟩⟩
    · have b1 := hW.at h3 h1 (Nat.le_refl _) hl
      exact ⟨b1.2, Or.inr (Or.inl ⟨h2, b1.1⟩)⟩
    · have b1 := hW.at h3 h1 (Nat.le_refl _) hl
      exact ⟨b1.2, Or.inr (Or.inr (Or.inl ⟨h2, b1.1⟩))⟩
    · have b1 := hW.at h3 h1 (Nat.le_refl _) hl
      exact ⟨b1.2, Or.inr (Or.inr (Or.inr ⟨h2, b1.1⟩))⟩
  · have hcc : sCc S n = 2 := by
      rcases hN.2 with z | z | z | z | z | z | z
      · omega
      · omega
      · omega
      · omega
      · omega
      · exact z.2.1
      · omega
    have hi := sNode_in hN (j := j) (by omega)
    exact Or.inr (Or.inl ⟨h0, j, c, h1, h2, h3, h4, h5.fr hW (by omega) (by omega)⟩)
  · have b1 := hW.at h2 h1 (Nat.le_refl _) hl
    have b2 := hW.at h4 h3 (Nat.le_refl _) hl
    have b3 := hW.at h6 h5 (Nat.le_refl _) hl
    exact Or.inr (Or.inr ⟨h0, b1.2, ba, oa, b1.1, b2.2, b2.1, b3.2, b3.1⟩)
theorem gL_id {w : gw} {to da : Nat} {L : List Nat} {f : Nat → Int32} (h1 : w.1 to = some (.inl (19, [ga (some da), gi (nI L.length)]))) (h2 : w.1 da = some (.inr (0, 24, .inl f))) : gL w to da L f = w := by
  unfold gL
  rw [hs_id h2, hs_id h1]
theorem rDone_st {S : SV} {i lo hi k : Nat} {s s1 : Nat → Int32} (h : ∀ n, lo ≤ n → n < hi → sKd S n = 1 → s1 (21 + 1262 * (i) + (622 + 10 * (n) + 0)) = s (21 + 1262 * (i) + (622 + 10 * (n) + 0)) ∧ s1 (21 + 1262 * (i) + (622 + 10 * (n) + 5)) = s (21 + 1262 * (i) + (622 + 10 * (n) + 5))) : rDone S i s1 lo hi k ↔ rDone S i s lo hi k := by
  constructor
  · rintro ⟨k0, n, a, b, c, d, e⟩
    obtain ⟨h1, h2⟩ := h n a b c
    exact ⟨k0, n, a, b, c, h1.symm.trans d, h2.symm.trans e⟩
  · rintro ⟨k0, n, a, b, c, d, e⟩
    obtain ⟨h1, h2⟩ := h n a b c
    exact ⟨k0, n, a, b, c, h1.trans d, h2.trans e⟩
def pOutB (i b : Nat) (w1 : gw) (s1 : Nat → Int32) (o : Nat) (x : Int32) (R : Prop) (e : Nat) : Prop :=
  o = w1.2.2.2 2 ∧ x = nI 1 ∧ s1 (21 + 1262 * (i) + (622 + 10 * (b) + 0)) = nI 1 ∧ R ∨
  o = w1.2.2.2 3 ∧ x = nI 2 ∧ s1 (21 + 1262 * (i) + (622 + 10 * (b) + 0)) = nI 2 ∧ rDead i s1 b e ∧ R ∨
  o = w1.2.2.2 4 ∧ x = nI 3 ∧ s1 (21 + 1262 * (i) + (622 + 10 * (b) + 0)) = nI 3 ∧ rDead i s1 b e ∧ R
def pResB (κ : Nat) (S : SV) (σ : TS) (xa mo ia i ver T l b a : Nat) (w : gw) (tg : pT) (s : Nat → Int32) (B : Nat) (bo un : Option Nat) (fr : Option (Option Nat × gw)) (tr : Option (Int32 × TS)) : Prop :=
  ∃ w1 tg1 s1 o x, fr = some (some o, w1) ∧ tr = some (x, tS σ s1) ∧ pW S σ xa mo ia i ver T w1 tg1 s1 B bo un ∧ pFr w w1 tg tg1 (pP mo ia b (sEn S b)) ∧ pQ i b (sEn S b) s s1 ∧ pRk κ i w w1 s s1 ∧ pPe i s s1 ∧
    pOutB i b w1 s1 o x (rB S xa ia i w1 tg1 s1 T true l b a) (sEn S b)
section BD
variable {S : SV} {σ : TS} {xa mo ia i ver T : Nat} {bo un : Option Nat}
/-- the component's round behind 'current' -/
def kBody (a0 : Nat) (rec : Nat → gw → Option (Option Nat × gw)) (KK : gw → Option (Option Nat × gw)) (w40 : gw) : Option (Option Nat × gw) := gB1 (gR w40 a0 18 3) fun r41 => gB1 r41 fun a42 => gB2 (rec a42 w40) fun r44 w43 => gB1 r44 fun a45 => gB1 (gOver w43 a45) fun x47 => if x47 = 0 then some ((some a45), w43) else gB1 (gR w43 a0 18 3) fun r49 => gB1 (gR w43 a0 18 5) fun r50 => gB1 r49 fun a51 => gB2 (f_Run_gathers 12 a51 r50 w43) fun _ w52 => gB1 (gPut w52 a0 18 3 (ga none)) fun w53 => gB1 (gI w53 a0 18 4) fun x54 => gB1 (gPut w53 a0 18 4 (gi (x54 + (nI 1)))) fun w55 => if (some a45) = (some (w55.2.2.2 4)) then some ((some a45), w55) else KK w55
/-- the reference's round behind an item's look -/
def kTw (KK : Int32 → Int32 → Int32 → TS → Option (Int32 × TS)) (x19 x20 x21 x22 : Int32) (w18 : TS) : Option (Int32 × TS) := if x22 = (nI 3) then gB2 (t_X2_comesTo x19 x20 (nI 3) w18) fun x28 w27 => some (x28, w27) else if x22 = (nI 2) then gB2 (t_X2_nodePart x19 x21 (nI 6) w18) fun x26 w25 => KK x19 x20 x26 w25 else some ((nI 1), w18)
/-- a body's own cells at a place of its loop -/
def bCell (S : SV) (xa ia b a idx : Nat) (cur : Option Nat) (dd da : Nat) (L : List Nat) (f : Nat → Int32) (w : gw) (tg : pT) : Prop := tg a = (ia, b) ∧
  w.1 a = some (.inl (18, [ga (some ia), ga (some xa), ga (some (sSa S b)), ga cur, gi (nI idx), ga (some dd), ga (some xa)])) ∧ tg dd = (ia, b) ∧ w.1 dd = some (.inl (19, [ga (some da), gi (nI L.length)])) ∧ tg da = (ia, b) ∧ w.1 da = some (.inr (0, 24, .inl f)) ∧ dL L f
def bRow (S : SV) (i b idx : Nat) (L : List Nat) (s : Nat → Int32) : Prop := idx ≤ sCc S b ∧ (∀ k, k ∈ L ↔ rDone S i s b (sCp S b idx) k) ∧ s (21 + 1262 * (i) + (622 + 10 * (b) + 7)) = -1 ∧ rDead i s (b + 1) (sCp S b idx) ∧ (∀ j, j < idx → s (21 + 1262 * (i) + (622 + 10 * (sCh S b j) + 0)) = nI 2) ∧ s (21 + 1262 * (i) + (622 + 10 * (b) + 0)) = nI 1
theorem bCell.fr {b a idx dd da : Nat} {cur : Option Nat} {L : List Nat} {f : Nat → Int32} {w w1 : gw} {tg tg1 : pT} {P : Nat × Nat → Prop} (h : bCell S xa ia b a idx cur dd da L f w tg) (h0 : pBd w) (hf : pFr w w1 tg tg1 P) (hP : ¬ P (ia, b)) : bCell S xa ia b a idx cur dd da L f w1 tg1 := by
  obtain ⟨a1, a2, a3, a4, a5, a6, a7⟩ := h
  have b1 := hf.at h0 a2 (by rw [a1]; exact hP)
  have b2 := hf.at h0 a4 (by rw [a3]; exact hP)
  have b3 := hf.at h0 a6 (by rw [a5]; exact hP)
  exact ⟨b1.2.trans a1, b1.1, b2.2.trans a3, b2.1, b3.2.trans a5, b3.1, a7⟩
/-- the loop's state as a body's relation, once its state is not RUNNING -/
theorem bOver {l b a idx dd da : Nat} {L : List Nat} {f : Nat → Int32} {w : gw} {tg : pT} {s : Nat → Int32} {x : Int32} {q : Bool} (hS : sWf S) (hb : b < sEn S 0) (hk : sKd S b = 0) (hc : bCell S xa ia b a idx none dd da L f w tg) (hr : idx ≤ sCc S b ∧ (∀ k, k ∈ L ↔ rDone S i s b (sCp S b idx) k) ∧ s (21 + 1262 * (i) + (622 + 10 * (b) + 7)) = -1 ∧ rDead i s (b + 1) (sCp S b idx)) (hu : rUn i s (sCp S b idx) (sEn S b)) (hx : x = nI 2 ∨ x = nI 3) :
    rDead i (upd s (21 + 1262 * (i) + (622 + 10 * (b) + 0)) x) b (sEn S b) ∧ rB S xa ia i w tg (upd s (21 + 1262 * (i) + (622 + 10 * (b) + 0)) x) T q l b a := by
  have hNs : sEn S 0 ≤ 64 := hS.1
  have hN := hS.2.2.2.2.2 b hb
  obtain ⟨a1, a2, a3, a4, a5, a6, a7⟩ := hc
  obtain ⟨b1, b2, b3, b4⟩ := hr
  have hcp := sNode_cp hN b1
  have hNb := hN.1.2.1
  have hv : upd s (21 + 1262 * (i) + (622 + 10 * (b) + 0)) x (21 + 1262 * (i) + (622 + 10 * (b) + 0)) = x := upd_self _ _ _
  have hne : ∀ m k, b < m → k < 10 → upd s (21 + 1262 * (i) + (622 + 10 * (b) + 0)) x (21 + 1262 * (i) + (622 + 10 * (m) + k)) = s (21 + 1262 * (i) + (622 + 10 * (m) + k)) := fun m k h1 h2 => upd_ne (by omega)
  have h7 : upd s (21 + 1262 * (i) + (622 + 10 * (b) + 0)) x (21 + 1262 * (i) + (622 + 10 * (b) + 7)) = -1 := (upd_ne (by omega)).trans b3
  have hx1 : x ≠ nI 1 ∧ x ≠ nI 5 ∧ x ≠ nI 0 := by rcases hx with rfl | rfl <;> decide
  have hd1 : rDead i (upd s (21 + 1262 * (i) + (622 + 10 * (b) + 0)) x) (b + 1) (sCp S b idx) := fun m h1 h2 => by
    rw [hne m 0 (by omega) (by omega), hne m 7 (by omega) (by omega)]
    exact b4 m h1 h2
  have hun : rUn i (upd s (21 + 1262 * (i) + (622 + 10 * (b) + 0)) x) (sCp S b idx) (sEn S b) := fun m h1 h2 => by
    rw [hne m 0 (by omega) (by omega), hne m 7 (by omega) (by omega), hne m 6 (by omega) (by omega), hne m 2 (by omega) (by omega)]
    exact hu m h1 h2
  have hdead : rDead i (upd s (21 + 1262 * (i) + (622 + 10 * (b) + 0)) x) b (sEn S b) := by
    intro m h1 h2
    by_cases hm : m = b
    · subst hm
      rw [hv, h7]
      exact ⟨rfl, hx1.1, hx1.2.1⟩
    · by_cases hm2 : m < sCp S b idx
      · exact hd1 m (by omega) hm2
      · exact rUn_dead hun m (by omega) h2
  refine ⟨hdead, ?_⟩
  have hgen : ∀ rIx, rBody S xa ia i w tg (upd s (21 + 1262 * (i) + (622 + 10 * (b) + 0)) x) rIx b a := fun rIx => ⟨a1, idx, none, dd, da, L, f, a2, a3, a4, a5, a6, a7, b1, fun k => (b2 k).trans (rDone_st (fun m h1 h2 h3 => by
    have hmb : m ≠ b := by rintro rfl; omega
    exact ⟨hne m 0 (by omega) (by omega), hne m 5 (by omega) (by omega)⟩)).symm, h7, hd1, hun, fun z => absurd (hv.symm.trans z) hx1.2.2, fun z => absurd (hv.symm.trans z) hx1.1, fun _ => hdead, by rw [hv]; exact hx1.2.1⟩
  cases l with
  | zero => exact hgen _
  | succ l => exact hgen _
/-- behind an item's look -/
theorem body_after {l b a idx dd da a' κ : Nat} {rec : Nat → gw → Option (Option Nat × gw)} {KK : gw → Option (Option Nat × gw)} {KK2 : Int32 → Int32 → Int32 → TS → Option (Int32 × TS)} {L : List Nat} {f : Nat → Int32} {w : gw} {tg : pT} {s : Nat → Int32} {B : Nat} {tr : Option (Int32 × TS)} (hS : sWf S) (hb : b < sEn S 0) (hk : sKd S b = 0) (hl : l ≤ 4) (hidx : idx < sCc S b)
    (hB : B + 256 * (sEn S b - sCp S b idx) < 2 ^ 31) (hc : bCell S xa ia b a idx (some a') dd da L f w tg) (hr : bRow S i b idx L s) (hu : rUn i s (sEn S (sCh S b idx)) (sEn S b)) (h0 : pBd w)
    (hres : pRes κ S σ xa mo ia i ver T l (sCh S b idx) a' w tg s B bo un (rec a' w) tr)
    (hnext : ∀ w1 tg1 s1 L1 f1, pW S σ xa mo ia i ver T w1 tg1 s1 (B + 256 * (sEn S (sCh S b idx) - sCh S b idx)) bo un → bCell S xa ia b a (idx + 1) none dd da L1 f1 w1 tg1 → bRow S i b (idx + 1) L1 s1 → rUn i s1 (sCp S b (idx + 1)) (sEn S b) → pRk κ i w w1 s s1 → w1.2.2.2 = w.2.2.2 → pResB 0 S σ xa mo ia i ver T l b a w1 tg1 s1 (B + 256 * (sEn S b - sCp S b idx)) bo un (KK w1) (KK2 (nI i) (nI b) (sAt S b (idx + 1)) (tS σ s1))) :
    pResB κ S σ xa mo ia i ver T l b a w tg s (B + 256 * (sEn S b - sCp S b idx)) bo un (kBody a rec KK w) (gB2 tr fun x w18 => kTw KK2 (nI i) (nI b) (nI (sCh S b idx)) x w18) := by
  have hNs : sEn S 0 ≤ 64 := hS.1
  have hN := hS.2.2.2.2.2 b hb
  have hi' := sNode_in hN hidx
  have hNb := hN.1.2.1
  obtain ⟨w1, tg1, s1, o, x, r1, rfl, r3, r4, r5, r6, r7, r8⟩ := hres
  have hi : i < 6 := r3.1.2.1
  have hE := r3.2.2.2.2.2.2
  have hia := r3.1.1
  have hP : ¬ pP mo ia (sCh S b idx) (sEn S (sCh S b idx)) (ia, b) := by
    rintro (z | z)
    · have := z.2
      simp only at this
      omega
    · have h1 := congrArg Prod.fst z
      obtain ⟨du, fa, ins, va, pe, hi2, dl, f10, f11, f12, c1, c2, -⟩ := r3.cells
      exact (ne_of c1 c2 (by simp)) h1.symm
  have hc1 := hc.fr h0 r4 hP
  have hK : w1.2.2.2 = w.2.2.2 := r4.2.2.1
  have hfr : pFr w w1 tg tg1 (pP mo ia b (sEn S b)) := r4.mono (fun t z => by
    rcases z with z | z
    · exact Or.inl ⟨z.1, by have := z.2; omega⟩
    · exact Or.inr z)
  have hq : pQ i b (sEn S b) s s1 := r5.mono (by omega) (by omega)
  have hout : ∀ m k, m < 64 → k < 10 → (m < sCh S b idx ∨ sEn S (sCh S b idx) ≤ m) → s1 (21 + 1262 * (i) + (622 + 10 * (m) + k)) = s (21 + 1262 * (i) + (622 + 10 * (m) + k)) := fun m k h1 h2 h3 => r5 _ (by omega) (by omega) (by omega)
  obtain ⟨b1, b2, b3, b4, b5, b6⟩ := hr
  have hr1 : bRow S i b idx L s1 := by
    refine ⟨b1, fun k => (b2 k).trans (rDone_st (fun m h1 h2 _ => ⟨hout m 0 (by omega) (by omega) (by omega), hout m 5 (by omega) (by omega) (by omega)⟩)).symm, (hout b 7 (by omega) (by omega) (by omega)).trans b3, fun m h1 h2 => ?_, fun j hj => ?_, (hout b 0 (by omega) (by omega) (by omega)).trans b6⟩
    · rw [hout m 7 (by omega) (by omega) (by omega), hout m 0 (by omega) (by omega) (by omega)]
      exact b4 m h1 h2
    · have hj' := sNode_lt hN hj hidx
      have hjj := sNode_in hN (j := j) (by omega)
      rw [hout _ 0 (by omega) (by omega) (by omega)]
      exact b5 j hj
  have hu1 : rUn i s1 (sEn S (sCh S b idx)) (sEn S b) := fun m h1 h2 => by
    rw [hout m 0 (by omega) (by omega) (by omega), hout m 7 (by omega) (by omega) (by omega), hout m 6 (by omega) (by omega) (by omega), hout m 2 (by omega) (by omega) (by omega)]
    exact hu m h1 h2
  have ho := pf_over r3.2.1
  obtain ⟨a1, a2, a3, a4, a5, a6, a7⟩ := hc1
  have a20 := hc.2.1
  have hNb2 : B + 256 * (sEn S (sCh S b idx) - sCh S b idx) ≤ B + 256 * (sEn S b - sCp S b idx) := by
    have := hi'.2.2.2.1
    omega
  rw [pu_B2]
  rcases r8 with ⟨rfl, hx, hst, hR⟩ | hov
  · -- it runs on
    refine ⟨w1, tg1, s1, w1.2.2.2 2, nI 1, ?_, ?_, r3.mono hNb2, hfr, hq, r6, r7, Or.inl ⟨rfl, rfl, hr1.2.2.2.2.2, ?_⟩⟩
    · unfold kBody
      rw [pu_R (k := 3) a20 rfl, pu_B1, pu_B1, r1, pu_B2, pu_B1, ho.1, pu_B1, if_pos rfl]
    · have e3 : ¬ x = nI 3 := by rcases hx with rfl | rfl <;> decide
      have e2 : ¬ x = nI 2 := by rcases hx with rfl | rfl <;> decide
      unfold kTw
      rw [if_neg e3, if_neg e2]
    · have hlive : rLive i s1 (sCh S b idx) := by
        unfold rLive
        rw [hst]
        exact hx
      obtain ⟨b1, b2, b3, b4, b5, b6⟩ := hr1
      have hgen : ∀ rIx : Nat → Nat → Prop, rIx (sCh S b idx) a' → rBody S xa ia i w1 tg1 s1 rIx b a := fun rIx hrx => ⟨a1, idx, some a', dd, da, L, f, a2, a3, a4, a5, a6, a7, b1, b2, b3, b4, ⟨hidx, hrx, hu1⟩, fun z => absurd (b6.symm.trans z) (by decide), fun _ => ⟨by simp, hlive, b5⟩, fun z => absurd b6 z, by rw [b6]; decide⟩
      cases l with
      | zero => exact hgen _ hR
      | succ l => exact hgen _ hR
  · -- it is over
    have hov' : ∃ kd, (kd = 2 ∧ o = w1.2.2.2 3 ∨ kd = 3 ∧ o = w1.2.2.2 4) ∧ x = nI kd ∧ s1 (21 + 1262 * (i) + (622 + 10 * (sCh S b idx) + 0)) = nI kd ∧ rDead i s1 (sCh S b idx) (sEn S (sCh S b idx)) ∧ rI S xa ia i w1 tg1 s1 T true l (sCh S b idx) a' := by
      rcases hov with ⟨z1, z2, z3, z4, z5⟩ | ⟨z1, z2, z3, z4, z5⟩
      · exact ⟨2, Or.inl ⟨rfl, z1⟩, z2, z3, z4, z5⟩
      · exact ⟨3, Or.inr ⟨rfl, z1⟩, z2, z3, z4, z5⟩
    obtain ⟨kd, hkd, rfl, hst, hdead, hR⟩ := hov'
    have hover : gOver w1 o = some 1 := by
      rcases hkd with ⟨-, rfl⟩ | ⟨-, rfl⟩
      · exact ho.2.1
      · exact ho.2.2
    have huq : pUq S i s1 := by
      obtain ⟨-, -, -, -, -, ⟨va, pe, hi', dl, fv, fp, fh, i1, i2, i3, i4, i5, i6, i7, i8, i9, i10, i11, m, ea, mc, g, d1, d2, d3, d4, d5, d6, d7, d8, d9⟩, -⟩ := r3
      exact d9
    have hkn : sKd S (sCh S b idx) ≠ 0 := by
      rcases hN.2 with z | z | z | z | z | z | z
      · exact (z.2.2 idx hidx).1
      all_goals omega
    have hmo : (ia, b) ≠ (0, 100) := fun z => hia (congrArg Prod.fst z)
    have hg := (gath (q := true) (T := T) (xa := xa) (ia := ia) (tg := tg1) (w := w1) (to := dd) (da := da) hS huq l).2 12 (sCh S b idx) a' (by omega) (sWf_lt hS hb hidx) hkn ⟨⟨_, a4⟩, ⟨_, a6⟩, by rw [a3]; exact hmo, by rw [a5]; exact hmo, by rw [a3]; intro z; have := z.2.1; simp only at this; omega, by rw [a5]; intro z; have := z.2.1; simp only at this; omega⟩ hR L f a7 (fun y hy hm => by
      obtain ⟨m, z1, z2, z3, z4⟩ := rDone_uq huq (by omega) (by omega) hy ((hr1.2.1 y).mp hm)
      have := hi'.2.2.2.1
      omega)
    rw [gL_id a4 a6] at hg
    obtain ⟨f2, L2, g1, g2, g3⟩ := hg
    have hda : da ≠ dd := ne_of a6 a4 (by simp)
    have hada : a ≠ da := ne_of a2 a6 (by simp)
    have hadd : a ≠ dd := ne_of a2 a4 (by simp)
    have hW2 : pW S σ xa mo ia i ver T (gL w1 dd da L2 f2) tg1 s1 (B + 256 * (sEn S (sCh S b idx) - sCh S b idx)) bo un := (r3.put a6 a5 (by omega)).put ((hs_ne hda.symm).trans a4) a3 (by omega)
    have hF2 : pFr w1 (gL w1 dd da L2 f2) tg1 tg1 (pP mo ia b (sEn S b)) := by
      have hpb : ∀ t : Nat × Nat, t = (ia, b) → pP mo ia b (sEn S b) t := fun t z => by rw [z]; exact Or.inl ⟨rfl, Or.inl ⟨Nat.le_refl _, hN.1.1⟩⟩
      exact (pFr.hs r3.bd a6 (hpb _ a5)).tr (pFr.hs (r3.put a6 a5 (by omega)).bd ((hs_ne hda.symm).trans a4) (hpb _ a3))
    have a2' : (gL w1 dd da L2 f2).1 a = some (.inl (18, [ga (some ia), ga (some xa), ga (some (sSa S b)), ga (some a'), gi (nI idx), ga (some dd), ga (some xa)])) := (hs_ne hadd).trans ((hs_ne hada).trans a2)
    obtain ⟨w3, hw3⟩ : ∃ w3, hs (gL w1 dd da L2 f2) a (.inl (18, [ga (some ia), ga (some xa), ga (some (sSa S b)), ga none, gi (nI (idx + 1)), ga (some dd), ga (some xa)])) = w3 := ⟨_, rfl⟩
    have hW3 : pW S σ xa mo ia i ver T w3 tg1 s1 (B + 256 * (sEn S (sCh S b idx) - sCh S b idx)) bo un := by
      rw [← hw3]
      exact hW2.put a2' a1 (by omega)
    have hF3 : pFr w w3 tg tg1 (pP mo ia b (sEn S b)) := by
      rw [← hw3]
      exact (hfr.tr hF2).tr (pFr.hs hW2.bd a2' (by rw [a1]; exact Or.inl ⟨rfl, Or.inl ⟨Nat.le_refl _, hN.1.1⟩⟩))
    have hw32 : w3.2 = w1.2 := by rw [← hw3]; rfl
    have hc3 : bCell S xa ia b a (idx + 1) none dd da L2 f2 w3 tg1 := by
      rw [← hw3]
      exact ⟨a1, hs_self _ _ _, a3, (hs_ne hadd.symm).trans (hs_self _ _ _), a5, (hs_ne hada.symm).trans ((hs_ne hda).trans (hs_self _ _ _)), g2⟩
    have hcp1 : sCp S b (idx + 1) = sEn S (sCh S b idx) := hi'.2.2.2.2.symm
    have hcp0 : sCp S b idx = sCh S b idx := hi'.2.2.2.1
    have hdone : ∀ k, k ∈ L2 ↔ rDone S i s1 b (sCp S b (idx + 1)) k := fun k => by
      rw [g3 k, hr1.2.1 k, hcp1, hcp0, rDone_app (a := b) (b := sCh S b idx) (c := sEn S (sCh S b idx)) (by omega) (by omega)]
      exact or_comm
    have hdd : rDead i s1 (b + 1) (sCp S b (idx + 1)) := by
      rw [hcp1]
      exact rDead_app (hcp0 ▸ hr1.2.2.2.1) hdead
    have hpr3 : pRk κ i w w3 s s1 := by
      unfold pRk at r6 ⊢
      rw [hw32]
      exact r6
    have hcomp : kBody a rec KK w = if (some o) = (some (w.2.2.2 4)) then some (some o, w3) else KK w3 := by
      have e5 : nI idx + nI 1 = nI (idx + 1) := nI_add _ _
      have y1 : ¬ (1 : Int32) = 0 := by decide
      unfold kBody
      rw [pu_R (k := 3) a20 rfl, pu_B1, pu_B1, r1, pu_B2, pu_B1, hover, pu_B1, if_neg y1, pu_R (k := 3) a2 rfl, pu_B1, pu_R (k := 5) a2 rfl, pu_B1, pu_B1, g1, pu_B2, pu_Put a2' (by show 3 < 7; omega), pu_B1, pu_I (k := 4) (hs_self _ _ _) rfl, pu_B1, pu_Put (hs_self _ _ _) (by show 4 < 7; omega), pu_B1, hs_hs, e5]
      show (if some o = some ((hs (gL w1 dd da L2 f2) a (.inl (18, [ga (some ia), ga (some xa), ga (some (sSa S b)), ga none, gi (nI (idx + 1)), ga (some dd), ga (some xa)]))).2.2.2 4) then _ else _) = _
      rw [hs_K]
      show (if some o = some (w1.2.2.2 4) then some (some o, hs (gL w1 dd da L2 f2) a (.inl (18, [ga (some ia), ga (some xa), ga (some (sSa S b)), ga none, gi (nI (idx + 1)), ga (some dd), ga (some xa)]))) else KK (hs (gL w1 dd da L2 f2) a (.inl (18, [ga (some ia), ga (some xa), ga (some (sSa S b)), ga none, gi (nI (idx + 1)), ga (some dd), ga (some xa)])))) = _
      rw [hw3, hK]
    rcases hkd with ⟨rfl, rfl⟩ | ⟨rfl, rfl⟩
    · -- on to the next
      have hne : ¬ (some (w1.2.2.2 3) = some (w.2.2.2 4)) := by
        rw [hK]
        intro z
        exact r3.2.1.2.2.2.2 (by rw [hK]; exact Option.some.inj z)
      have hrow : bRow S i b (idx + 1) L2 s1 := ⟨hidx, hdone, hr1.2.2.1, hdd, fun j hj => by
        by_cases hji : j = idx
        · subst hji
          exact hst
        · exact hr1.2.2.2.2.1 j (by omega), hr1.2.2.2.2.2⟩
      obtain ⟨w4, tg4, s4, o4, x4, v1, v2, v3, v4, v5, v6, v7, v8⟩ := hnext w3 tg1 s1 L2 f2 hW3 hc3 hrow (by rw [hcp1]; exact hu1) hpr3 (by rw [hw32]; exact hK)
      refine ⟨w4, tg4, s4, o4, x4, ?_, ?_, v3, hF3.tr v4, hq.tr v5, pRs.k hpr3 v6.s, fun c hc z => v7 c hc (r7 c hc z), v8⟩
      · rw [hcomp, if_neg hne]
        exact v1
      · have e3 : ¬ nI 2 = nI 3 := by decide
        have k6 := r3.np (n := sCh S b idx) (k := 6) (sWf_lt hS hb hidx) (by omega)
        rw [(hN.1.2.2.2.2.2 idx hidx).2.2.1] at k6
        unfold kTw
        rw [if_neg e3, if_pos rfl, k6, pu_B2]
        exact v2
    · -- it broke
      obtain ⟨v1, v2⟩ := bOver (l := l) (T := T) (q := true) hS hb hk hc3 ⟨hidx, hdone, hr1.2.2.1, hdd⟩ (by rw [hcp1]; exact hu1) (Or.inr rfl)
      have hv0 : s1 (21 + 1262 * (i) + (622 + 10 * (b) + 0)) = nI 1 := hr1.2.2.2.2.2
      refine ⟨w3, tg1, upd s1 (21 + 1262 * (i) + (622 + 10 * (b) + 0)) (nI 3), w1.2.2.2 4, nI 3, ?_, ?_, ?_, hF3, hq.tr (pQ.upd _ (by have := hN.1.1; omega)), pRs.k hpr3 (leaf_rk (by omega) rfl hv0 (by decide) (upd_self _ _ _) (fun m _ hm => upd_ne (by omega))).s, fun c hc z => ?_, Or.inr (Or.inr ⟨by rw [hw32], rfl, upd_self _ _ _, v1, v2⟩)⟩
      · rw [hcomp, if_pos (by rw [hK])]
      · unfold kTw
        rw [if_pos rfl, pt_comesTo hi (by omega), pu_B2]
      · exact (hW3.rows (fun j hj => upd_ne (by omega)) (fun m _ hm => ⟨by rw [upd_ne (by have : m ≠ b := (by rintro rfl; omega); omega)], fun _ => ⟨upd_ne (by omega), upd_ne (by omega)⟩⟩)).mono hNb2
      · rw [upd_ne (by omega)]
        exact r7 c hc z
end BD
