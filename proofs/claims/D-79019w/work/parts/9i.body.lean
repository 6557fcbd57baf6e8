set_option maxRecDepth 100000
/-! READING: a body -/
section BD
variable {xa rd L N0 M0 p o nd : Nat} {S : SV} {tp : Nat → Nat} {w : gw} {σ : TS} {ar : Int32} {rl : Nat → Nat → Int32} {ab la : Nat}
/-- k items are read -/
def bodT (xa rd L N0 M0 p o nd : Nat) (S : SV) (tp : Nat → Nat) (w : gw) (σ : TS) (ar : Int32) (rl : Nat → Nat → Int32) (ab la k : Nat) (S1 : SV) (tp1 : Nat → Nat) (W : gw) (σ1 : TS) (p1 it1 nd1 mo1 : Nat) (chf : Nat → Nat) : Prop :=
  pSt xa rd L N0 M0 W σ1 p1 o it1 nd1 mo1 ∧ (0 < k → p < p1) ∧ wF rd w W ∧ tF σ σ1 ∧ nd + 1 ≤ nd1 ∧ nd1 ≤ 2 * it1 + (if k = 0 then 1 else 0) ∧ (W.2.1 + 4 ≤ w.2.1 + 6 * (nd1 - nd) ∧ W.2.2.1 + 116 ≤ w.2.2.1 + 120 * (nd1 - nd)) ∧ pG S1 (rr σ1) nd1 it1 mo1 p1 ∧ agr S S1 0 nd ∧ (sKd S1 nd = 0 ∧ sLv S1 nd = 4 - o) ∧ (∀ b, b < w.2.1 → tp1 b = tp b) ∧ 1000 ≤ tp1 rd ∧ (W.1 (W.2.2.2 5) = none ∧ W.2.2.2 5 < N0) ∧ (∀ m q, m < nd → q < 9 → rr σ1 m q = rl m q) ∧ (rr σ1 nd 0 = nI 0 ∧ (0 < k → rr σ1 nd 5 = nI (nd + 1)) ∧ rr σ1 nd 6 = -1 ∧ rr σ1 nd 8 = ar) ∧ (W.1 ab = some (.inl (5, [ga (some la)])) ∧ tp1 ab = nd ∧ w.2.1 ≤ ab) ∧ k ≤ it1 ∧ KC S1 (rr σ1) W tp1 N0 nd k nd1 chf (fun x => x ≠ 0) (4 - o) ∧ LI S1 W tp1 w.2.1 nd la k chf
theorem bodT.mv {k : Nat} {S1 : SV} {tp1 : Nat → Nat} {W W' : gw} {σ1 σ' : TS} {p1 it1 nd1 mo1 : Nat} {chf : Nat → Nat} (hT : bodT xa rd L N0 M0 p o nd S tp w σ ar rl ab la k S1 tp1 W σ1 p1 it1 nd1 mo1 chf) (hn : nd < 1000) (hne : nd1 ≤ 64) (hon : pOn xa rd L N0 M0 W σ1 p1 o it1 nd1 mo1 W' σ') : bodT xa rd L N0 M0 p o nd S tp w σ ar rl ab la k S1 tp1 W' σ' (p1 + 1) it1 nd1 mo1 chf := by
  obtain ⟨h, g1, g2, g3, g4, g5, ⟨g6, g7⟩, g8, g9, g10, g12, g13, ⟨g14, g14'⟩, g15, ⟨g16, g17, g18, g20⟩, ⟨g23, g24, g25⟩, g26, g21, g22⟩ := hT
  obtain ⟨h1, w1, t1, s1, z1, -⟩ := hon
  have hrd := h.rdl
  have hcell : ∀ a x, W.1 a = some x → tp1 a < 1000 → W'.1 a = some x ∧ tp1 a = tp1 a := fun a x hx ht => ⟨(w1.2.2.2 a (h.bd _ _ hx) (by rintro rfl; omega)).trans hx, rfl⟩
  have hK5 : W'.1 (W'.2.2.2 5) = none := by
    rw [z1]
    exact (w1.2.2.2 _ (by have := h.room.2.2.2.2; omega) (by have := h.room.2.2.2.2; omega)).trans g14
  refine ⟨h1, fun z => by have := g1 z; omega, g2.tr w1, g3.tr t1, g4, g5, by rw [z1]; exact ⟨g6, g7⟩, by rw [rr_eq s1]; exact g8.fr (fun _ _ => ⟨rfl, rfl⟩) (fun _ _ => rfl) (by omega), g9, g10, g12, g13, ⟨hK5, by rw [z1]; exact g14'⟩, by rw [rr_eq s1]; exact g15, by rw [rr_eq s1]; exact ⟨g16, g17, g18, g20⟩, ⟨(hcell ab _ g23 (by omega)).1, g24, g25⟩, g26, ?_, g22.fr (fun _ _ => rfl) (fun a x hx _ ht => hcell a x hx (by omega)) (by rw [z1]) hK5⟩
  rw [rr_eq s1]
  exact g21.fr agr.rf (fun _ _ _ _ _ => rfl) (fun a x hx _ _ t2 => hcell a x hx (by omega))
theorem bod_one {k : Nat} {rec : Nat → gw → Option (((Nat × Nat) ⊕ Option Nat) × gw)} {rec' : Int32 → Int32 → TS → Option (Int32 × TS)} (hrec : o < 4 → hRec xa rd L N0 M0 (o + 1) rec rec') {S1 : SV} {tp1 : Nat → Nat} {W : gw} {σ1 : TS} {p1 it1 nd1 mo1 : Nat} {chf : Nat → Nat} (hT : bodT xa rd L N0 M0 p o nd S tp w σ ar rl ab la k S1 tp1 W σ1 p1 it1 nd1 mo1 chf) (hnd : nd < 64) (hp1 : p ≤ p1) (hrd3 : rd < w.2.1) (hN3 : N0 ≤ w.2.1) (hB1 : w.2.1 ≤ N0 + 6 * nd + 4) (hB2 : w.2.2.1 ≤ M0 + 120 * nd + 100) :
    pFail L N0 M0 rd w σ (f_X4_item rec rd W) (t_X2_readsItem rec' (nI nd) σ1) ∨ ∃ a W9 σ9 W10 S2 tp3 p2 it2 nd2 mo2 l0 l1 l2, f_X4_item rec rd W = some (.inr (some a), W9) ∧ t_X2_readsItem rec' (nI nd) σ1 = some (nI 1, σ9) ∧ W9.1 la = some (.inl (8, [l0, l1, l2])) ∧ f_J2_add la (some a) W9 = some (nI 1, W10) ∧ p1 < p2 ∧ bodT xa rd L N0 M0 p o nd S tp w σ ar rl ab la (k + 1) S2 tp3 W10 (if k = 0 then pX σ9 nd 5 (nI nd1) else pX σ9 (chf (k - 1)) 6 (nI nd1)) p2 it2 nd2 mo2 (fun j => if j = k then nd1 else chf j) := by
  obtain ⟨h, g1, g2, g3, g4, g5, ⟨g6, g7⟩, g8, g9, ⟨g10, g11⟩, g12, g13, g14, g15, ⟨g16, g17, g18, g20⟩, ⟨g23, g24, g25⟩, g26, g21, g22⟩ := hT
  obtain ⟨-, -, -, -, -, -, -, -, n9, n10, n11, n12⟩ := h.nums
  have hNr := h.room.2.2.2.2
  have hC : rdC xa rd L N0 M0 S1 tp1 W σ1 p1 o it1 nd1 mo1 := ⟨h, g8, by omega, by omega, g14, g13⟩
  have hlast : 0 < k → nd < chf (k - 1) ∧ chf (k - 1) < nd1 := fun hk0 => by
    obtain ⟨y1, y2, -⟩ := g21.mem (show k - 1 < k by omega)
    exact ⟨y1, y2⟩
  rcases item_s (b := nd) hrec hC (by split at g5 <;> omega) with hf | ⟨a, W9, σ9, p2, it2, nd2, mo2, S2, tp2, i1, i2, h9, i4, w9, t9, i7, i8, i9, i10, i11, i12, i13, i14, i15, i16, i17, i18, i19, i20, i21, i22⟩
  · exact Or.inl (pFail.bk hf g2 g3 (fun _ _ _ hv => hv) (fun _ hv => hv))
  · right
    obtain ⟨τ, hτ⟩ : ∃ τ, (if k = 0 then pX σ9 nd 5 (nI nd1) else pX σ9 (chf (k - 1)) 6 (nI nd1)) = τ := ⟨_, rfl⟩
    have τ0 : ∀ j, τ 0 j = σ9 0 j := fun j => by
      rw [← hτ]
      by_cases hk0 : k = 0
      · rw [if_pos hk0, pX_r (by omega)]
      · rw [if_neg hk0, pX_r (by omega)]
    have τ8 : τ 8 = σ9 8 := by
      rw [← hτ]
      by_cases hk0 : k = 0
      · rw [if_pos hk0, pX_r (by omega)]
      · rw [if_neg hk0, pX_r (by omega)]
    have τt : tF σ9 τ := by
      rw [← hτ]
      by_cases hk0 : k = 0
      · rw [if_pos hk0]; exact tF.rf.pX _
      · rw [if_neg hk0]; exact tF.rf.pX _
    have τr : ∀ m q, q < 9 → ¬ (k = 0 ∧ m = nd ∧ q = 5) → ¬ (0 < k ∧ m = chf (k - 1) ∧ q = 6) → rr τ m q = rr σ9 m q := fun m q hq d1 d2 => by
      rw [← hτ]
      by_cases hk0 : k = 0
      · rw [if_pos hk0, pX_n (by omega) hq (by omega)]
      · rw [if_neg hk0, pX_n (by omega) hq (by omega)]
    have τl : 0 < k → rr τ (chf (k - 1)) 6 = nI nd1 := fun hk0 => by
      rw [← hτ, if_neg (by omega), pX_s _ _ (by omega)]
    have τf : k = 0 → rr τ nd 5 = nI nd1 := fun hk0 => by
      rw [← hτ, if_pos hk0, pX_s _ _ (by omega)]
    have hit : it1 + 1 ≤ it2 := by
      have e1 := g8.1
      have e2 := i11.1
      have e3 : pSum (fun n => if sKd S2 n = 0 then 0 else 1) nd1 = it1 := by
        rw [← e1]
        exact pSum_eq (fun m hm => by rw [(i12 m (Nat.zero_le _) hm).2.1])
      have e4 : pSum (fun n => if sKd S2 n = 0 then 0 else 1) (nd1 + 1) = pSum (fun n => if sKd S2 n = 0 then 0 else 1) nd1 + (if sKd S2 nd1 = 0 then 0 else 1) := rfl
      rw [if_neg i18, e3] at e4
      have := pSum_mono (f := fun n => if sKd S2 n = 0 then 0 else 1) (show nd1 + 1 ≤ nd2 by omega)
      omega
    have hK9 : W9.2.2.2 = W.2.2.2 := w9.2.2.1
    have h59 : W9.1 (W9.2.2.2 5) = none := by
      rw [hK9]
      exact (w9.2.2.2 _ (by have := g14.2; have := h.rdl; omega) (by have := g14.2; omega)).trans g14.1
    have h59' : W9.2.2.2 5 < N0 := by rw [hK9]; exact g14.2
    obtain ⟨-, -, -, -, -, -, -, -, k9, k10, k11, k12⟩ := h9.nums
    have hr9 := h9.room
    have hsub9 : sub S2 (rr τ) W9 tp2 N0 nd1 nd2 := i15.fr agr.rf (fun m q m1 _ hq _ => τr m q hq (by omega) (fun z => by have := (hlast z.1).2; omega)) (fun _ _ hx _ _ _ => ⟨hx, rfl⟩)
    obtain ⟨W10, tp3, y1, y2, y3, y4, y5, y6, y7, y8, y9, y12, y10, y11⟩ := kid_step (rd := rd) (kp := fun x => x ≠ 0) (r9 := rr τ) (e1 := nd2) (a := a) g21 g22 (by omega) (by omega) hnd hN3 g2.2.1 (by omega) h.bd h9.bd w9.2.1 (fun b x hx hb => (w9.2.2.2 b (h.bd _ _ hx) hb).trans hx) i13 g13 hK9 h59 h59' (i12.sub (Nat.zero_le _) (Nat.le_refl _)) (fun m q m1 m2 hq hne => by
      rw [τr m q hq (by omega) hne, i14 m q m2 hq]) τl hsub9 (by rw [τr nd1 6 (by omega) (by omega) (fun z => by have := (hlast z.1).2; omega), i16]) (by rw [τr nd1 8 (by omega) (by omega) (by omega), i17]) i18 i19 i20 (by omega) (by omega)
    have hla9 : ∃ l0 l1 l2, W9.1 la = some (.inl (8, [l0, l1, l2])) := by
      obtain ⟨l1, mc, ea, l2, -⟩ := g22
      exact ⟨_, _, _, (w9.2.2.2 la (h.bd _ _ l2) (by rintro rfl; have := l1.2; omega)).trans l2⟩
    obtain ⟨l0, l1, l2, hla9⟩ := hla9
    have w10 : wF rd w W10 := ⟨y2, by have := g2.2.1; have := w9.2.1; omega, by rw [y3]; exact hK9.trans g2.2.2.1, fun b hb hbr => (y9 b hb).trans ((w9.2.2.2 b (by have := g2.2.1; omega) hbr).trans (g2.2.2.2 b hb hbr))⟩
    have hnk : sKd S2 nd = 0 ∧ sLv S2 nd = 4 - o := by
      obtain ⟨-, v2, -, -, -, v6⟩ := i12 nd (Nat.zero_le _) (by omega)
      exact ⟨v2.trans g10, v6.trans g11⟩
    have hab : W10.1 ab = some (.inl (5, [ga (some la)])) ∧ tp3 ab = nd := by
      have hbl := h.bd _ _ g23
      have q9 : W9.1 ab = _ := (w9.2.2.2 ab hbl (by rintro rfl; omega)).trans g23
      have t9' : tp2 ab = nd := (i13 ab hbl).trans g24
      exact ⟨y12 _ _ _ q9 (by omega), (y7 ab (by have := w9.2.1; omega)).trans t9'⟩
    refine ⟨a, W9, σ9, W10, S2, tp3, p2, it2, nd2, mo2, l0, l1, l2, i1, i2, hla9, y1, i4, ?_⟩
    rw [hτ]
    refine ⟨(h9.cp hrd3 y2 y9 y3 (by omega) (by omega)).sg (fun j _ => τ0 j) τ8, fun _ => by omega, w10, (g3.tr t9).tr τt, by omega, by rw [if_neg (by omega)]; omega, ⟨by omega, by omega⟩, i11.fr (fun _ _ => ⟨rfl, rfl⟩) (fun m _ => τr m 7 (by omega) (by omega) (by omega)) (Nat.le_refl _), fun m m1 m2 => (g9 m m1 m2).tr (i12 m m1 (by omega)), hnk, fun b hb => ?_, ?_, ⟨?_, by rw [y3]; exact h59'⟩, fun m q hm hq => ?_, ⟨?_, fun _ => ?_, ?_, ?_⟩, ⟨hab.1, hab.2, g25⟩, by omega, y10, y11⟩
    · have := g2.2.1
      have := w9.2.1
      rw [y7 b (by omega), i13 b (by omega), g12 b hb]
    · rw [y7 rd h9.rdl, i13 rd h.rdl]
      exact g13
    · rw [y3]
      exact (y9 _ (by omega)).trans h59
    · rw [τr m q hq (by omega) (fun z => by have := (hlast z.1).1; omega), i14 m q (by omega) hq, g15 m q hm hq]
    · rw [τr nd 0 (by omega) (by omega) (by omega), i14 nd 0 (by omega) (by omega), g16]
    · by_cases hk0 : k = 0
      · rw [τf hk0, g21.1 hk0]
      · rw [τr nd 5 (by omega) (by omega) (by omega), i14 nd 5 (by omega) (by omega), g17 (by omega)]
    · rw [τr nd 6 (by omega) (by omega) (fun z => by have := (hlast z.1).1; omega), i14 nd 6 (by omega) (by omega), g18]
    · rw [τr nd 8 (by omega) (by omega) (by omega), i14 nd 8 (by omega) (by omega), g20]
end BD
