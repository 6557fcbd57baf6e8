set_option maxRecDepth 100000
/-! A PARALLEL's RUN: while it is compensated, and its end -/
def kTail (a0 : Nat) (w3 : gw) : Option (Option Nat × gw) := gB1 (gR w3 a0 22 5) fun r4 => gB1 r4 fun a5 => gB1 (gOb w3 a5 26) fun _ => gB2 (f_X26_isOver a5  w3) fun x7 w6 => if x7 = 0 then some ((some (w6.2.2.2 2)), w6) else gB1 (gR w6 a0 22 0) fun r9 => gB1 (gOb w6 a0 22) fun _ => gB2 (f_X22_many a0 (some (w6.2.2.2 3)) w6) fun x11 w10 => gB1 r9 fun a12 => gB1 (gOb w10 a12 16) fun _ => gB2 (f_X16_notes a12 (nI 9) x11 w10) fun _ w13 => some ((some (w13.2.2.2 3)), w13)
section PT
variable {S : SV} {σ : TS} {xa mo ia i ver T : Nat} {bo un : Option Nat}
theorem par_rI_comp {n a ba oa l ua : Nat} {ptr out : Nat → Option Nat} {w : gw} {tg : pT} {s : Nat → Int32} (hk6 : sKd S n = 6) (hc : pCell S xa ia n a ba oa (some ua) ptr out w tg) (hK : ∀ j, j < sCc S n → pKid S xa ia i l w tg s T true n ptr out j) (hst : ∀ j, j < sCc S n → s (21 + 1262 * (i) + (622 + 10 * (sCh S n j) + 0)) ≠ nI 1) (h5 : s (21 + 1262 * (i) + (622 + 10 * (n) + 0)) = nI 5) (hu : uLive S xa ia i w tg s T n ua) : rI S xa ia i w tg s T true (l + 1) n a := by
  obtain ⟨a1, a2, a3, a4, a5, a6⟩ := hc
  show rItem S xa ia i w tg s T true (rB S xa ia i w tg s T true l) n a
  refine Or.inr (Or.inr (Or.inr (Or.inr (Or.inr ⟨hk6, a1, ba, oa, some ua, ptr, out, a2, a3, a4, a5, a6, fun k hk => ?_, fun _ k hk => ?_, fun z => ?_, fun _ => ⟨hst, ua, rfl, hu⟩, fun ub z => ?_, fun z => absurd (Or.inr h5) z⟩))))
  · obtain ⟨a', y1, y2, y3⟩ := hK k hk
    refine Or.inr ⟨?_, a', y1, y2⟩
    rcases y3 with z | z | z
    · exact Or.inl z.1
    · exact Or.inr (Or.inl z.1)
    · exact Or.inr (Or.inr z.1)
  · obtain ⟨a', y1, y2, y3⟩ := hK k hk
    exact y3
  · exact absurd (h5.symm.trans z) (by decide)
  · obtain rfl := Option.some.inj z
    obtain ⟨L, left, tried, til, u1, -⟩ := hu
    exact ⟨L, _, _, til, u1⟩
/-- the parallel's own cells out of an undoing's reach -/
def tX (tg : pT) (a ba oa : Nat) : pT := fun b => if b = a ∨ b = ba ∨ b = oa then (0, 101) else tg b
theorem tX_in {tg : pT} {a ba oa b : Nat} (h : b = a ∨ b = ba ∨ b = oa) : tX tg a ba oa b = (0, 101) := if_pos h
theorem tX_out {tg : pT} {a ba oa b : Nat} (h : ¬ (b = a ∨ b = ba ∨ b = oa)) : tX tg a ba oa b = tg b := if_neg h
theorem tX_of {tg : pT} {a ba oa b : Nat} {x : Nat × Nat} (h : tX tg a ba oa b = x) (hx : x ≠ (0, 101)) : tg b = x := by
  by_cases hb : b = a ∨ b = ba ∨ b = oa
  · rw [tX_in hb] at h
    exact absurd h.symm hx
  · rw [tX_out hb] at h
    exact h
theorem par_tail {n a ba oa l ua left tried B : Nat} {til : Int32} {L : List Nat} {ptr out : Nat → Option Nat} {w : gw} {tg : pT} {s : Nat → Int32} (hW : pW S σ xa mo ia i ver T w tg s B bo un) (hB : B + 206 < 2 ^ 31) (hnn : n < sEn S 0) (hk6 : sKd S n = 6) (hc : pCell S xa ia n a ba oa (some ua) ptr out w tg) (hK : ∀ j, j < sCc S n → pKid S xa ia i l w tg s T true n ptr out j) (hst : ∀ j, j < sCc S n → s (21 + 1262 * (i) + (622 + 10 * (sCh S n j) + 0)) ≠ nI 1) (h5 : s (21 + 1262 * (i) + (622 + 10 * (n) + 0)) = nI 5) (hu : uSt S xa ia i n ua L left tried til w tg s) (ht3 : tried ≤ 3) :
    ∃ w1 s1 o x, kTail a w = some (some o, w1) ∧ kPar (nI i) (nI n) (tS σ s) = some (x, tS σ s1) ∧ pW S σ xa mo ia i ver T w1 tg s1 (B + 203) bo un ∧ w1.2 = w.2 ∧ pFr w w1 tg tg (pP mo ia n (sEn S n)) ∧ pQ i n (sEn S n) s s1 ∧ pPe i s s1 ∧ (∀ m, m < 64 → m ≠ n → s1 (21 + 1262 * (i) + (622 + 10 * (m) + 0)) = s (21 + 1262 * (i) + (622 + 10 * (m) + 0))) ∧ (s1 (21 + 1262 * (i) + (622 + 10 * (n) + 0)) = nI 5 ∨ s1 (21 + 1262 * (i) + (622 + 10 * (n) + 0)) = nI 2) ∧ pOut i n w1 s1 o x (rI S xa ia i w1 tg s1 T true (l + 1) n a) (sEn S n) := by
  have hS : sWf S := hW.1.2.2.1
  have hNs : sEn S 0 ≤ 64 := hS.1
  have hi : i < 6 := hW.1.2.1
  have hia := hW.1.1
  have hmi := hW.mi
  have hN := hS.2.2.2.2.2 n hnn
  have hNn := hN.1.2.1
  have hl := hN.1.1
  have hk0 := hS.2.2.1
  have hn0 : n ≠ 0 := by rintro rfl; omega
  obtain ⟨hcc1, hc4, -, hch⟩ := par_ch hS hnn hk6
  have hcx := hc
  obtain ⟨a1, a2, a3, a4, a5, a6⟩ := hc
  obtain ⟨F, hF⟩ : ∃ F : Nat → Prop, F = fun t => n < t ∧ t < sEn S n ∧ s (21 + 1262 * (i) + (622 + 10 * (t) + 0)) = nI 2 := ⟨_, rfl⟩
  have hspec : ∀ b, (b = a ∨ b = ba ∨ b = oa) → tg b = (ia, n) := fun b hb => by
    rcases hb with z | z | z
    · rw [z]; exact a1
    · rw [z]; exact a3
    · rw [z]; exact a5
  have hiaX : (ia, n) ≠ (0, 101) := fun z => hia (congrArg Prod.fst z)
  have hWX : pW S σ xa mo ia i ver T w (tX tg a ba oa) s B bo un := hW.retag (X := (ia, n)) (fun z => hia (congrArg Prod.fst z)) (fun j hj z => by
    have := congrArg Prod.snd z
    simp only at this
    omega) (fun j _ z => hmi (congrArg Prod.fst z).symm) (fun b e _ hb => tX_out (fun z => hb (hspec b z))) (fun b hb _ => tX_out (fun z => by
    rcases z with z | z | z
    · rw [z, a2] at hb; exact absurd hb (by simp)
    · rw [z, a4] at hb; exact absurd hb (by simp)
    · rw [z, a6] at hb; exact absurd hb (by simp)))
  have hlen : left ≤ 24 := by
    have h1 := hu.2.1.1
    obtain ⟨-, td, tda, f, -, -, -, -, -, h2⟩ := hu.1
    have := h2.2.1
    omega
  have huX : uSt S xa ia i n ua L left tried til w (tX tg a ba oa) s := by
    obtain ⟨⟨z1, td, tda, f, z2, z3, z4, z5, z6, z7⟩, hr⟩ := hu
    have out1 : ∀ b, tg b = (0, 100) → tX tg a ba oa b = (0, 100) := fun b hb => by
      rw [tX_out (fun z => ?_)]
      · exact hb
      · have := (hspec b z).symm.trans hb
        exact hia (congrArg Prod.fst this)
    refine ⟨⟨?_, td, tda, f, z2, out1 _ z3, z4, out1 _ z5, z6, z7⟩, hr⟩
    rw [tX_out (fun z => ?_)]
    · exact z1
    · rcases z with z | z | z
      · exact ne_of z2 a2 (by simp) z
      · exact ne_of z2 a4 (by simp) z
      · exact ne_of z2 a6 (by simp) z
  obtain ⟨w1, s1, x, r1, r2, r3X, r4, r5X, r6, r7⟩ := undo_loop (n := n) (ua := ua) (F := F) (L := L) (tg := tX tg a ba oa) hS hnn (by omega) 100 w s B left tried til 20001 20001 (by omega) ht3 (by omega) (by omega) hWX (by omega) huX (fun t z1 z2 z3 => by
    rw [hF]
    have := rFor_in hn0 hN z1
    exact ⟨this.1, this.2, z3⟩)
  have hPX : ¬ pP mo ia n (n + 1) (0, 101) := by
    rintro (z | z)
    · exact hia z.1.symm
    · have := congrArg Prod.snd z
      simp only at this
      omega
  have e2 := (r5X.at hW.bd a2 (by rw [tX_in (Or.inl rfl)]; exact hPX)).1
  have e4 := (r5X.at hW.bd a4 (by rw [tX_in (Or.inr (Or.inl rfl))]; exact hPX)).1
  have e6 := (r5X.at hW.bd a6 (by rw [tX_in (Or.inr (Or.inr rfl))]; exact hPX)).1
  have hc1 : pCell S xa ia n a ba oa (some ua) ptr out w1 tg := ⟨a1, e2, a3, e4, a5, e6⟩
  have hW1 : pW S σ xa mo ia i ver T w1 tg s1 (B + 2 * 100 + 2) bo un := r3X.retag (X := (0, 101)) (by simp) (fun j _ z => hia (congrArg Prod.fst z).symm) (fun j hj z => by
    have := congrArg Prod.snd z
    simp only at this
    omega) (fun b e _ hb => (tX_of rfl hb)) (fun b hb _ => (tX_out (fun y => by
    rcases y with y | y | y
    · rw [y, e2] at hb; exact absurd hb (by simp)
    · rw [y, e4] at hb; exact absurd hb (by simp)
    · rw [y, e6] at hb; exact absurd hb (by simp))).symm)
  have r5 : pFr w w1 tg tg (pP mo ia n (n + 1)) := ⟨r5X.1, r5X.2.1, r5X.2.2.1, fun _ _ => rfl, fun b hb hn => r5X.2.2.2.2 b hb (fun z => by
    by_cases hb2 : b = a ∨ b = ba ∨ b = oa
    · rw [tX_in hb2] at z
      exact hPX z
    · rw [tX_out hb2] at z
      exact hn z)⟩
  have hf : ∀ t, F t → n < t ∧ t < sEn S n ∧ s (21 + 1262 * (i) + (622 + 10 * (t) + 0)) = nI 2 := fun t h => by rw [hF] at h; exact h
  have hst0 : ∀ m, m < 64 → s1 (21 + 1262 * (i) + (622 + 10 * (m) + 0)) = s (21 + 1262 * (i) + (622 + 10 * (m) + 0)) := fun m hm => r6 _ (by omega) (by omega) (by omega) (by omega) (fun t _ => by omega)
  have hPe1 : pPe i s s1 := fun c hc z => (r6 _ (by omega) (by omega) (by omega) (by omega) (fun t _ => by omega)).trans z
  have hQ1 : pQ i n (sEn S n) s s1 := fun j h1 h2 h3 => r6 j h1 (by omega) (by omega) (by omega) (fun t ht => by have := hf t ht; omega)
  have hFr : pFr w w1 tg tg (pP mo ia n (sEn S n)) := r5.mono (fun t z => by
    rcases z with ⟨z1, z2⟩ | z
    · exact Or.inl ⟨z1, by omega⟩
    · exact Or.inr z)
  have haW : aW w w1 tg tg ia (n + 1) (sEn S n) := r5.aW hW.bd (fun t ht z => by
    rcases z with ⟨z1, z2⟩ | z
    · rcases ht with ht | ht
      · have := ht.2
        omega
      · rw [ht] at z1
        exact hia z1.symm
    · rcases ht with ht | ht
      · rw [z] at ht
        exact hmi ht.1
      · rw [z] at ht
        have := congrArg Prod.snd ht
        simp only at this
        omega)
  have hdk := kids_dead hS hnn hK hst
  have hK1 : ∀ j, j < sCc S n → pKid S xa ia i l w1 tg s1 T true n ptr out j := fun j hj => by
    have hi' := sNode_in hN hj
    have hcN := sWf_lt hS hnn hj
    obtain ⟨a', h1, h2, h3⟩ := hK j hj
    refine ⟨a', h1, (rB_fr (q := true) (q1 := true) (T := T) (T1 := T) hS r5.2.2.1 (fun z => ⟨z, hPe1⟩) (Nat.le_refl _) l).1 _ a' hcN (hch j hj).1 (haW.sub (by omega) (by omega)) ⟨fun m k m1 m2 hk hz => ?_, fun m m1 m2 h5' => ?_⟩ h2, ?_⟩
    · refine r6 _ (by omega) (by omega) (by omega) (by omega) (fun t ht => ?_)
      rcases hz with hz | hz
      · omega
      · intro h
        obtain rfl : m = t := by omega
        exact hz (hf _ ht).2.2
    · exact absurd h5' (hdk m (by omega) (by omega)).2.2
    · rw [r5.2.2.1, hst0 _ (by omega)]
      exact h3
  have hst1 : ∀ j, j < sCc S n → s1 (21 + 1262 * (i) + (622 + 10 * (sCh S n j) + 0)) ≠ nI 1 := fun j hj => by
    have hi' := sNode_in hN hj
    rw [hst0 _ (by omega)]
    exact hst j hj
  have huat : tg ua = (ia, n) ∧ ∃ fs, w.1 ua = some (.inl (26, fs)) := by
    obtain ⟨⟨z1, td, tda, f, z2, -⟩, -⟩ := hu
    exact ⟨z1, _, z2⟩
  obtain ⟨hut, ufs, huc⟩ := huat
  have e15 : s1 (21 + 1262 * (i) + (622 + 10 * (n) + 0)) = nI 5 := (hst0 n (by omega)).trans h5
  have hover : f_X26_isOver ua w = some (x, w1) := by
    rw [f_isOver_eq]
    exact r1
  have hcomp : t_X2_compensates (nI i) (nI n) (tS σ s) = some (x, tS σ s1) := by
    rw [t_comp_eq]
    exact r2
  rcases r7 with ⟨rfl, hlv⟩ | ⟨rfl, h7, hdd⟩
  · -- it goes on
    have hlv1 : uLive S xa ia i w1 tg s1 T n ua := by
      obtain ⟨L', left', tried', til', ⟨z1, td, tda, f, z2, z3, z4, z5, z6, z7⟩, hr⟩ := hlv
      exact ⟨L', left', tried', til', ⟨tX_of z1 hiaX, td, tda, f, z2, tX_of z3 (by simp), z4, tX_of z5 (by simp), z6, z7⟩, hr⟩
    refine ⟨w1, s1, w1.2.2.2 2, nI 5, ?_, ?_, hW1.mono (by omega), r4, hFr, hQ1, hPe1, fun m hm _ => hst0 m hm, Or.inl e15, Or.inl ⟨rfl, Or.inr rfl, e15, par_rI_comp hk6 hc1 hK1 hst1 e15 hlv1⟩⟩
    · unfold kTail
      rw [pu_R (k := 5) a2 rfl, pu_B1, pu_B1, pu_Ob huc, pu_B1, hover, pu_B2, if_pos (by decide)]
    · unfold kPar
      rw [hcomp, pu_B2, if_pos (by decide)]
  · -- it has ended
    have hdd1 : uDead xa ia w1 tg n ua := by
      obtain ⟨L', left', tried', til', z1, td, tda, f, z2, z3, z4, z5, z6, z7⟩ := hdd
      exact ⟨L', left', tried', til', tX_of z1 hiaX, td, tda, f, z2, tX_of z3 (by simp), z4, tX_of z5 (by simp), z6, z7⟩
    obtain ⟨o1, o2⟩ := kid_count hW1.2.1 (sCc S n) hK1
    have m1 := pf_many (v := w1.2.2.2 3) e2 e6 (by omega)
    rw [o2] at m1
    obtain ⟨d, hd⟩ : ∃ d, rCount S i s1 n 2 (sCc S n) = d := ⟨_, rfl⟩
    rw [hd] at m1
    have c2 := t_bodiesIn hW1 hnn (x := 2) (by omega)
    rw [hd] at c2
    obtain ⟨w2, n1, n2, n3, n4, n5⟩ := sim_notes hW1 (by omega) (nI 9) (nI d)
    have hE := hW1.2.2.2.2.2.2
    have hnrow : ∀ j, j ≠ (21 + 1262 * (i) + 9) → (j < (21 + 1262 * (i) + 22) ∨ (21 + 1262 * (i) + 622) ≤ j) → uNotes i (nI 9) (nI d) s1 j = s1 j := fun j h1 h2 => uNotes_ne hE (by omega) h1 h2
    obtain ⟨s3, hs3⟩ : ∃ s3, upd (uNotes i (nI 9) (nI d) s1) (21 + 1262 * (i) + (622 + 10 * (n) + 0)) (nI 2) = s3 := ⟨_, rfl⟩
    have hne : ∀ j, j ≠ (21 + 1262 * (i) + (622 + 10 * (n) + 0)) → s3 j = uNotes i (nI 9) (nI d) s1 j := fun j h => by rw [← hs3, upd_ne h]
    have h30 : s3 (21 + 1262 * (i) + (622 + 10 * (n) + 0)) = nI 2 := by rw [← hs3, upd_self]
    have hrow3 : ∀ m k, k < 10 → (m ≠ n ∨ k ≠ 0) → s3 (21 + 1262 * (i) + (622 + 10 * (m) + k)) = s1 (21 + 1262 * (i) + (622 + 10 * (m) + k)) := fun m k hk hm => (hne _ (by omega)).trans (hnrow _ (by omega) (by omega))
    have hW3 : pW S σ xa mo ia i ver T w2 tg s3 (B + 203) bo un := (n3.mono (by omega)).rows (fun j hj => hne j (by omega)) (fun m hm hk => by
      have hmn : m ≠ n := by rintro rfl; omega
      rw [hne _ (by omega), hne _ (by omega), hne _ (by omega)]
      exact ⟨Iff.rfl, fun _ => ⟨rfl, rfl⟩⟩)
    have hPN : ¬ ((ia, n) = (ia, 64) ∨ (ia, n) = (ia, 67)) := by
      rintro (z | z)
      · have := congrArg Prod.snd z
        simp only at this
        omega
      · have := congrArg Prod.snd z
        simp only at this
        omega
    have hc3 : pCell S xa ia n a ba oa (some ua) ptr out w2 tg := ⟨a1, (n5.at hW1.bd e2 (by rw [a1]; exact hPN)).1, a3, (n5.at hW1.bd e4 (by rw [a3]; exact hPN)).1, a5, (n5.at hW1.bd e6 (by rw [a5]; exact hPN)).1⟩
    have haW3 : ∀ lo hi, hi ≤ 64 → aW w1 w2 tg tg ia lo hi := fun lo hi hh => n5.aW hW1.bd (fun t ht z => by
      rcases ht with ht | ht
      · rcases z with z | z
        · rw [z] at ht
          have := ht.2.2
          simp only at this
          omega
        · rw [z] at ht
          have := ht.2.2
          simp only at this
          omega
      · rcases z with z | z
        · rw [ht] at z
          exact hia (congrArg Prod.fst z).symm
        · rw [ht] at z
          exact hia (congrArg Prod.fst z).symm)
    have hPe3 : pPe i s1 s3 := fun c hc z => ((hne _ (by omega)).trans (hnrow _ (by omega) (by omega))).trans z
    have hK3 : ∀ j, j < sCc S n → pKid S xa ia i l w2 tg s3 T true n ptr out j := fun j hj => by
      have hi' := sNode_in hN hj
      exact kid_fr hS hnn hk6 hj (haW3 _ _ (by omega)) n5.2.2.1 (fun m k h1 h2 h3 => hrow3 m k h3 (by omega)) hPe3 rfl (hK1 j hj)
    have hdk1 := kids_dead hS hnn hK1 hst1
    have hd3 : rDead i s3 n (sEn S n) := fun m h1 h2 => by
      by_cases hmn : m = n
      · subst hmn
        rw [h30, hrow3 m 7 (by omega) (by omega), h7]
        decide
      · rw [hrow3 m 0 (by omega) (by omega), hrow3 m 7 (by omega) (by omega)]
        exact hdk1 m (by omega) h2
    have hdd3 : uDead xa ia w2 tg n ua := by
      obtain ⟨L', left', tried', til', z⟩ := hdd1
      exact ⟨L', left', tried', til', uCell_fr (lo := n) (hi := n + 1) (haW3 n (n + 1) (by omega)) (Nat.le_refl _) (Nat.lt_succ_self _) z⟩
    obtain ⟨va, fv, f1, f2, f3, f5, f6, f7, f8, f9, f10, f11, f12, f13, f14, f15, c3, -⟩ := hW1.vars
    refine ⟨w2, s3, w2.2.2.2 3, nI 2, ?_, ?_, hW3, n4.trans r4, hFr.tr (n5.mono (fun t z => pP_can hl t (Or.inr z))), ?_, fun c hc z => hPe3 c hc (hPe1 c hc z), fun m hm hmn => (hrow3 m 0 (by omega) (Or.inl hmn)).trans (hst0 m hm), Or.inr h30, Or.inr (Or.inl ⟨rfl, rfl, h30, hd3, par_rI_over hk6 hc3 hK3 (fun ub z => by
      obtain rfl := Option.some.inj z
      exact hdd3) hd3 hl⟩)⟩
    · unfold kTail
      rw [pu_R (k := 5) a2 rfl, pu_B1, pu_B1, pu_Ob huc, pu_B1, hover, pu_B2, if_neg (by decide), pu_R (k := 0) e2 rfl, pu_B1, pu_Ob e2, pu_B1, m1, pu_B2, pu_B1, pu_Ob c3, pu_B1, n1, pu_B2]
    · unfold kPar
      rw [hcomp, pu_B2, if_neg (by decide), c2, pu_B2, n2, pu_B2, pt_comesTo hi (by omega), pu_B2, hs3]
    · intro j h1 h2 h3
      rw [hne j (by omega), hnrow j (by omega) (by omega)]
      exact hQ1 j h1 h2 h3
end PT
