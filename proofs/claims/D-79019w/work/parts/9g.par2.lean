set_option maxRecDepth 100000
/-! READING: a parallel, body by body -/
section P2
variable {xa rd L N0 M0 p o nd : Nat} {S : SV} {tp : Nat → Nat} {W3 : gw} {σ3 : TS} {pl : Int32} {la : Nat}
theorem parT.mv {k : Nat} {S1 : SV} {tp1 : Nat → Nat} {W W' : gw} {σ σ' : TS} {p1 it1 nd1 mo1 : Nat} {chf : Nat → Nat} (hT : parT xa rd L N0 M0 p o nd S tp W3 σ3 pl la k S1 tp1 W σ p1 it1 nd1 mo1 chf) (hn : nd < 1000) (hne : nd1 ≤ 64) (hN : N0 ≤ W3.2.1) (hon : pOn xa rd L N0 M0 W σ p1 (o + 1) it1 nd1 mo1 W' σ') : parT xa rd L N0 M0 p o nd S tp W3 σ3 pl la k S1 tp1 W' σ' (p1 + 1) it1 nd1 mo1 chf := by
  obtain ⟨h, g1, g2, g3, g4, g5, ⟨g6, g7⟩, g8, g9, g10, g12, g13, ⟨g14, g14'⟩, g15, ⟨g16, g17, g18, g19, g20⟩, g21, g22⟩ := hT
  obtain ⟨h1, w1, t1, s1, z1, -⟩ := hon
  have hrd := h.rdl
  have hcell : ∀ a x, W.1 a = some x → tp1 a < 1000 → W'.1 a = some x ∧ tp1 a = tp1 a := fun a x hx ht => ⟨(w1.2.2.2 a (h.bd _ _ hx) (by rintro rfl; omega)).trans hx, rfl⟩
  have hK5 : W'.1 (W'.2.2.2 5) = none := by
    rw [z1]
    exact (w1.2.2.2 _ (by have := h.room.2.2.2.2; omega) (by have := h.room.2.2.2.2; omega)).trans g14
  refine ⟨h1, by omega, g2.tr w1, g3.tr t1, g4, g5, by rw [z1]; exact ⟨g6, g7⟩, by rw [rr_eq s1]; exact g8.fr (fun _ _ => ⟨rfl, rfl⟩) (fun _ _ => rfl) (by omega), g9, g10, g12, g13, ⟨hK5, by rw [z1]; exact g14'⟩, by rw [rr_eq s1]; exact g15, by rw [rr_eq s1]; exact ⟨g16, g17, g18, g19, g20⟩, ?_, g22.fr (fun _ _ => rfl) (fun a x hx _ ht => hcell a x hx (by omega)) (by rw [z1]) hK5⟩
  rw [rr_eq s1]
  exact g21.fr agr.rf (fun _ _ _ _ _ => rfl) (fun a x hx _ _ t2 => hcell a x hx (by omega))
theorem par_one {k : Nat} {rec : Nat → gw → Option (((Nat × Nat) ⊕ Option Nat) × gw)} {rec' : Int32 → Int32 → TS → Option (Int32 × TS)} (hrec : hRec xa rd L N0 M0 (o + 1) rec rec') {S1 : SV} {tp1 : Nat → Nat} {W : gw} {σ : TS} {p1 it1 nd1 mo1 : Nat} {chf : Nat → Nat} (hT : parT xa rd L N0 M0 p o nd S tp W3 σ3 pl la k S1 tp1 W σ p1 it1 nd1 mo1 chf) (hk : k ≤ 3) (hnd : nd < 64) (hrd3 : rd < W3.2.1) (hN3 : N0 ≤ W3.2.1) (hB1 : W3.2.1 ≤ N0 + 6 * nd + 4) (hB2 : W3.2.2.1 ≤ M0 + 120 * nd + 100) {bf : Int32} (hbf : bf = if k = 0 then -1 else nI (chf (k - 1))) :
    pFail L N0 M0 rd W3 σ3 (rec rd W) (rec' (nI nd) bf σ) ∨ ∃ a W9 σ9 W10 S2 tp3 p2 it2 nd2 mo2 l0 l1 l2, rec rd W = some (.inr (some a), W9) ∧ rec' (nI nd) bf σ = some (nI 1, σ9) ∧ W9.1 la = some (.inl (8, [l0, l1, l2])) ∧ f_J2_add la (some a) W9 = some (nI 1, W10) ∧ p1 < p2 ∧ parT xa rd L N0 M0 p o nd S tp W3 σ3 pl la (k + 1) S2 tp3 W10 σ9 p2 it2 nd2 mo2 (fun j => if j = k then nd1 else chf j) := by
  obtain ⟨h, g1, g2, g3, g4, g5, ⟨g6, g7⟩, g8, g9, ⟨g10, g11⟩, g12, g13, g14, g15, ⟨g16, g17, g18, g19, g20⟩, g21, g22⟩ := hT
  obtain ⟨-, -, -, -, -, -, -, -, n9, n10, n11, n12⟩ := h.nums
  have hNr := h.room.2.2.2.2
  have hC : rdC xa rd L N0 M0 S1 tp1 W σ p1 (o + 1) it1 nd1 mo1 := ⟨h, g8, by omega, by omega, g14, g13⟩
  have hlast : 0 < k → nd < chf (k - 1) ∧ chf (k - 1) < nd1 := fun hk0 => by
    obtain ⟨y1, y2, -⟩ := g21.mem (show k - 1 < k by omega)
    exact ⟨y1, y2⟩
  obtain ⟨rl, hrl⟩ : ∃ rl, (if k = 0 then up2 (rr σ) nd 5 (nI nd1) else up2 (rr σ) (chf (k - 1)) 6 (nI nd1)) = rl := ⟨_, rfl⟩
  have hlk : lkOk nd1 (nI nd) bf (rr σ) rl := by
    by_cases hk0 : k = 0
    · rw [if_pos hk0] at hbf hrl
      exact Or.inr (Or.inl ⟨nd, by omega, rfl, by rw [hbf]; decide, hrl.symm⟩)
    · rw [if_neg hk0] at hbf hrl
      obtain ⟨y1, y2⟩ := hlast (by omega)
      exact Or.inr (Or.inr ⟨chf (k - 1), nd, y2, by omega, rfl, hbf, hrl.symm⟩)
  rcases hrec S1 tp1 W σ p1 it1 nd1 mo1 (nI nd) bf rl hC g5 hlk with hf | ⟨a, W9, σ9, p2, it2, nd2, mo2, S2, tp2, i1, i2, h9, i4, w9, t9, i7, i8, i9, i10, i11, i12, i13, i14, i15, i16, i17, i18, i19, i20, i21, i22⟩
  · exact Or.inl (pFail.bk hf g2 g3 (fun _ _ _ hv => hv) (fun _ hv => hv))
  · right
    have hrlm : ∀ m q, m < nd1 → q < 9 → rr σ9 m q = rl m q := i14
    have hK9 : W9.2.2.2 = W.2.2.2 := w9.2.2.1
    have h59 : W9.1 (W9.2.2.2 5) = none := by
      rw [hK9]
      exact (w9.2.2.2 _ (by have := g14.2; have := h.rdl; omega) (by have := g14.2; omega)).trans g14.1
    have h59' : W9.2.2.2 5 < N0 := by rw [hK9]; exact g14.2
    obtain ⟨-, -, -, -, -, -, -, -, k9, k10, k11, k12⟩ := h9.nums
    have hr9 := h9.room
    obtain ⟨W10, tp3, y1, y2, y3, y4, y5, y6, y7, y8, y9, -, y10, y11⟩ := kid_step (rd := rd) (kp := fun x => x = 0) (r9 := rr σ9) (e1 := nd2) (a := a) g21 g22 (by omega) (by omega) hnd hN3 g2.2.1 (by omega) h.bd h9.bd w9.2.1 (fun b x hx hb => (w9.2.2.2 b (h.bd _ _ hx) hb).trans hx) i13 g13 hK9 h59 h59' (i12.sub (Nat.zero_le _) (Nat.le_refl _)) (fun m q m1 m2 hq hne => by
      rw [hrlm m q m2 hq, ← hrl]
      by_cases hk0 : k = 0
      · rw [if_pos hk0]
        exact if_neg (by omega)
      · rw [if_neg hk0]
        exact if_neg (fun z => hne ⟨by omega, z.1, z.2⟩)) (fun hk0 => by
      rw [hrlm _ 6 (hlast hk0).2 (by omega), ← hrl, if_neg (by omega)]
      exact if_pos ⟨rfl, rfl⟩) i15 i16 i17 i18 i19 i20 (by omega) (by omega)
    have hrow : ∀ m q, m < nd + 1 → q < 9 → (m = nd → q ≠ 5) → rr σ9 m q = rr σ m q := fun m q hm hq hne => by
      rw [hrlm m q (by omega) hq, ← hrl]
      by_cases hk0 : k = 0
      · rw [if_pos hk0]
        exact if_neg (fun z => hne z.1 z.2)
      · rw [if_neg hk0]
        exact if_neg (fun z => by have := (hlast (by omega)).1; omega)
    have hla9 : ∃ l0 l1 l2, W9.1 la = some (.inl (8, [l0, l1, l2])) := by
      obtain ⟨l1, mc, ea, l2, -⟩ := g22
      exact ⟨_, _, _, (w9.2.2.2 la (h.bd _ _ l2) (by rintro rfl; have := l1.2; omega)).trans l2⟩
    obtain ⟨l0, l1, l2, hla9⟩ := hla9
    have w10 : wF rd W3 W10 := ⟨y2, by have := g2.2.1; have := w9.2.1; omega, by rw [y3]; exact hK9.trans g2.2.2.1, fun b hb hbr => (y9 b hb).trans ((w9.2.2.2 b (by have := g2.2.1; omega) hbr).trans (g2.2.2.2 b hb hbr))⟩
    have hnk : sKd S2 nd = 6 ∧ sLv S2 nd = 4 - o := by
      obtain ⟨-, v2, -, -, -, v6⟩ := i12 nd (Nat.zero_le _) (by omega)
      exact ⟨v2.trans g10, v6.trans g11⟩
    refine ⟨a, W9, σ9, W10, S2, tp3, p2, it2, nd2, mo2, l0, l1, l2, i1, i2, hla9, y1, i4, h9.cp hrd3 y2 y9 y3 (by omega) (by omega), by omega, w10, g3.tr t9, by omega, i8, ⟨by omega, by omega⟩, i11, fun m m1 m2 => (g9 m m1 m2).tr (i12 m m1 (by omega)), hnk, fun b hb => ?_, ?_, ⟨?_, by rw [y3]; exact h59'⟩, fun m q hm hq => ?_, ⟨?_, fun _ => ?_, ?_, ?_, ?_⟩, y10, y11⟩
    · have := g2.2.1
      have := w9.2.1
      rw [y7 b (by omega), i13 b (by omega), g12 b hb]
    · rw [y7 rd h9.rdl, i13 rd h.rdl]
      exact g13
    · rw [y3]
      exact (y9 _ (by omega)).trans h59
    · rw [hrow m q (by omega) hq (fun z => by omega), g15 m q hm hq]
    · rw [hrow nd 0 (by omega) (by omega) (fun _ => by omega), g16]
    · by_cases hk0 : k = 0
      · rw [hrlm nd 5 (by omega) (by omega), ← hrl, if_pos hk0, ← g21.1 hk0]
        exact if_pos ⟨rfl, rfl⟩
      · rw [hrlm nd 5 (by omega) (by omega), ← hrl, if_neg hk0]
        have : up2 (rr σ) (chf (k - 1)) 6 (nI nd1) nd 5 = rr σ nd 5 := if_neg (by omega)
        rw [this]
        exact g17 (by omega)
    · rw [hrow nd 6 (by omega) (by omega) (fun _ => by omega), g18]
    · rw [hrow nd 7 (by omega) (by omega) (fun _ => by omega), g19]
    · rw [hrow nd 8 (by omega) (by omega) (fun _ => by omega), g20]
theorem par_loop {rec : Nat → gw → Option (((Nat × Nat) ⊕ Option Nat) × gw)} {rec' : Int32 → Int32 → TS → Option (Int32 × TS)} (hrec : hRec xa rd L N0 M0 (o + 1) rec rec') (ho : o < 4) (hnd : nd < 64) (hb3 : pBd W3) (hrd3 : rd < W3.2.1) (hN3 : N0 ≤ W3.2.1) (hB1 : W3.2.1 ≤ N0 + 6 * nd + 4) (hB2 : W3.2.2.1 ≤ M0 + 120 * nd + 100) : ∀ r k (S1 : SV) (tp1 : Nat → Nat) (W : gw) (σ : TS) (p1 it1 nd1 mo1 : Nat) (chf : Nat → Nat) (f1 f2 : Nat), L - p1 < r → r < f1 → r < f2 → 1 ≤ k → k ≤ 4 → parT xa rd L N0 M0 p o nd S tp W3 σ3 pl la k S1 tp1 W σ p1 it1 nd1 mo1 chf →
    opR xa rd L N0 M0 S tp p o nd W3 σ3 (gL2 (bf_X4_parallel_1 rd rec) f1 pl (some la) W) (parK rec' f2 nd k (chf (k - 1)) σ) := by
  intro r
  induction r with
  | zero => intro k S1 tp1 W σ p1 it1 nd1 mo1 chf f1 f2 h1; omega
  | succ r ih =>
    intro k S1 tp1 W σ p1 it1 nd1 mo1 chf f1 f2 hr hf1 hf2 hk1 hk4 hT
    have hz : (nI 0 : Int32) = 0 := by decide
    have hz1 : ¬ (nI 1 : Int32) = 0 := by decide
    have h := hT.1
    have n12 := h.nums.2.2.2.2.2.2.2.2.2.2.2
    rcases skips_s h (c := 124) (by omega) with ⟨-, W4, σ4, a1, a2, a3⟩ | ⟨a0, -, -⟩
    · have hT4 := hT.mv (by omega) (by omega) hN3 a3
      have hpL := a3.2.2.2.2.2
      have h4 := hT4.1
      have hla4 : ∃ f0 f1, W4.1 la = some (.inl (8, [f0, f1, gi (nI k)])) := by
        obtain ⟨-, -, -, -, -, -, -, -, -, -, -, -, -, -, -, -, l1, mc, ea, l2, -⟩ := hT4
        exact ⟨_, _, l2⟩
      obtain ⟨lf0, lf1, hla4⟩ := hla4
      obtain ⟨f1, rfl⟩ : ∃ g, f1 = g + 1 := ⟨f1 - 1, by omega⟩
      obtain ⟨f2, rfl⟩ : ∃ g, f2 = g + 1 := ⟨f2 - 1, by omega⟩
      have hg2 := hT4.2.2.1
      have hg3 := hT4.2.2.2.1
      show opR xa rd L N0 M0 S tp p o nd W3 σ3 (bf_X4_parallel_1 rd rec (gL2 (bf_X4_parallel_1 rd rec) f1) pl (some la) W) _
      unfold parK
      rw [a2, pu_B2, if_neg hz1]
      show opR xa rd L N0 M0 S tp p o nd W3 σ3 _ (bt_X2_readsParallel_1 rec' (gL3 (bt_X2_readsParallel_1 rec') f2) (nI nd) (nI k) (nI (chf (k - 1))) σ4)
      by_cases hk3 : k ≤ 3
      · have hne4 : ¬ nI k = nI 4 := fun z => by
          have := (nI_eq (by omega) (by omega)).mp z
          omega
        have hlt : nI k < nI 4 := (nI_ltI (by omega) (by omega)).mpr (by omega)
        have hle : ¬ nI 4 ≤ nI k := nI_ge (by omega) (by omega)
        have n14 := h4.nums.2.2.2.2.1
        generalize hKf : gL2 (bf_X4_parallel_1 rd rec) f1 = KK
        have ht2 : bt_X2_readsParallel_1 rec' (gL3 (bt_X2_readsParallel_1 rec') f2) (nI nd) (nI k) (nI (chf (k - 1))) σ4 = (gB2 (rec' (nI nd) (nI (chf (k - 1))) σ4) fun x11 w10 => if x11 = 0 then some ((nI 0), w10) else parK rec' f2 nd (k + 1) nd1 w10) := by
          generalize hKt : gL3 (bt_X2_readsParallel_1 rec') f2 = KT
          unfold bt_X2_readsParallel_1
          rw [if_neg hne4, pu_Bd, n14]
          congr 1
          funext x11 w10
          by_cases hx : x11 = 0
          · rw [if_pos hx, if_pos hx]
          · rw [if_neg hx, if_neg hx, pu_Bd, nI_add]
            unfold parK
            rw [hKt]
        rw [ht2]
        unfold bf_X4_parallel_1
        rw [pu_Ob h.1, pu_B1, a1, pu_B2, if_neg hz1, pu_B1, pu_Ob hla4, pu_B1, pf_size hla4, pu_B2, pu_Bd, pu_Bd, if_pos hlt]
        try dsimp only
        rw [pu_B1, pu_Ob h4.1, pu_B1, limits_1, gB2X_r, pu_B1, pu_Ob hla4, pu_B1, pf_size hla4, pu_B2, pu_Bd, if_neg hle]
        try dsimp only
        rw [pu_B1, pu_Ob h4.1, pu_B1, need_1, gB2X_r, pu_Ob h4.1, pu_B1]
        rcases par_one hrec hT4 hk3 hnd hrd3 hN3 hB1 hB2 (bf := nI (chf (k - 1))) (by rw [if_neg (by omega)]) with hf | ⟨a, W9, σ9, W10, S2, tp3, p2, it2, nd2, mo2, l0, l1, l2, i1, i2, i3, i4, i5, hT2⟩
        · left
          refine pFail.bk hf (wF.rf hb3) tF.rf (fun q c v hv => ?_) (fun v hv => ?_)
          · rw [hv, gB2X_l]
          · rw [hv, pu_B2, if_pos hz]
        · rw [i1, gB2X_r, pu_B1, pu_Ob i3, pu_B1, i4, pu_B2, i2, pu_B2, if_neg hz1, ← hKf]
          have := ih (k + 1) S2 tp3 W10 σ9 p2 it2 nd2 mo2 _ f1 f2 (by omega) (by omega) (by omega) (by omega) (by omega) hT2
          simp only [Nat.add_sub_cancel, if_true] at this
          exact this
      · obtain rfl : k = 4 := by omega
        have hlt : ¬ nI 4 < nI 4 := by decide
        have hle : nI 4 ≤ nI 4 := by decide
        generalize gL2 (bf_X4_parallel_1 rd rec) f1 = KK
        generalize gL3 (bt_X2_readsParallel_1 rec') f2 = KT
        unfold bf_X4_parallel_1 bt_X2_readsParallel_1
        rw [pu_Ob h.1, pu_B1, a1, pu_B2, if_neg hz1, pu_B1, pu_Ob hla4, pu_B1, pf_size hla4, pu_B2, pu_Bd, pu_Bd, if_neg hlt, pu_Ob h4.1, pu_B1, if_pos rfl, here_t h4, pu_B2]
        left
        by_cases hi : isIt (sG σ4 L (p1 + 1))
        · rw [(isIt_f h4).1 hi, pu_B2, if_neg hz1, (isIt_t _ σ4).1 hi, pu_B2, pu_Bd, if_neg hz1]
          try dsimp only
          rw [pu_Bd]
          refine pFail.bk (fail_limits (R := Option Nat) h4 (fun v hv => ?_) rfl) hg2 hg3 (fun _ _ _ hv => hv) (fun _ hv => hv)
          rw [pu_B1, pu_Ob h4.1, pu_B1, hz, hv, gB2X_l]
        · rw [(isIt_f h4).2 hi, pu_B2, if_pos hz, (isIt_t _ σ4).2 hi, pu_B2, pu_Bd, if_pos hz]
          try dsimp only
          rw [pu_Bd]
          rw [pu_B1, pu_Ob h4.1, pu_B1, limits_1, gB2X_r, pu_B1, pu_Ob hla4, pu_B1, pf_size hla4, pu_B2, pu_Bd, if_pos hle]
          try dsimp only
          refine pFail.bk3 (fail_need (R := Option Nat) h4 (fun v hv => ?_) rfl) hg2 (fun _ _ _ hv => hv) (fun v hv => ?_)
          · rw [pu_B1, pu_Ob h4.1, pu_B1, hz, hv, gB2X_l]
          · injection hv with hv
            injection hv with _ hv
            subst hv
            exact ⟨_, rfl, tPut_ne (by omega), (tPut_0 _ _ _).trans h4.nums.2.2.2.1.symm, hg3.put _ (by omega)⟩
    · exact parq_end hT hk1 hk4 ho hnd hN3 hB1 hB2 a0 (by omega)
theorem par_s {W2 : gw} {it mo : Nat} {rec : Nat → gw → Option (((Nat × Nat) ⊕ Option Nat) × gw)} {rec' : Int32 → Int32 → TS → Option (Int32 × TS)} {tr : Option (Int32 × TS)} (hrec : hRec xa rd L N0 M0 (o + 1) rec rec') (ho : o < 4) (h2 : ∃ f2, W2.1 rd = some (.inl (4, gi (nI p) :: f2))) (e3 : gPut W2 rd 4 0 (gi (nI p + nI 1)) = some W3) (h3 : pSt xa rd L N0 M0 W3 σ3 (p + 1) (o + 1) it (nd + 1) mo) (hnd : nd + 1 ≤ 2 * it) (hB1 : W3.2.1 ≤ N0 + 6 * nd + 4) (hB2 : W3.2.2.1 ≤ M0 + 120 * nd + 100) (hK5 : W3.1 (W3.2.2.2 5) = none ∧ W3.2.2.2 5 < N0) (htp : 1000 ≤ tp rd) (r0 : rr σ3 nd 0 = nI 6) (r7 : rr σ3 nd 7 = pl) (hG : pG (sSet S nd 6 0 0 0 (4 - o) (fun _ => 0)) (rr σ3) (nd + 1) it mo (p + 1)) (htr : tr = gL3 (bt_X2_readsParallel_1 rec') 20000 (nI nd) (nI 0) (-1) σ3) :
    opR xa rd L N0 M0 S tp p o nd W3 σ3 (f_X4_parallel rec rd pl W2) tr := by
  obtain ⟨f2, h2⟩ := h2
  have hz : (nI 0 : Int32) = 0 := by decide
  have hz1 : ¬ (nI 1 : Int32) = 0 := by decide
  obtain ⟨n1, n2, -, -, n14, -, -, -, n9, -, -, n12⟩ := h3.nums
  have hNr := h3.room.2.2.2.2
  have hrl := h3.rdl
  subst htr
  obtain ⟨V0, e0, q0, o0, z0, h0, w0⟩ := newc h3 (ci := 8) (m := 3) (fs := [gi 0, ga none, gi 0]) rfl (by omega) (by omega) (by omega)
  obtain ⟨V1, e1, q1, o1, z1, b1⟩ := st_put (k := 0) q0 (by show 0 < 3; omega) h0.bd (gi (nI 0))
  obtain ⟨V2, e2, q2, o2, z2, b2⟩ := st_put (k := 1) q1 (by show 1 < 3; omega) b1 (ga (some (V1.2.2.2 5)))
  have zz : V2.2 = (W3.2.1 + 1, W3.2.2.1 + 3, W3.2.2.2) := by rw [z2, z1, z0]
  have hK1 : V1.2.2.2 = W3.2.2.2 := by rw [z1, z0]
  have oV : ∀ b, b ≠ W3.2.1 → V2.1 b = W3.1 b := fun b hb => by rw [o2 b hb, o1 b hb, o0 b hb]
  have hV : pSt xa rd L N0 M0 V2 σ3 (p + 1) (o + 1) it (nd + 1) mo := h3.cp (B := W3.2.1) hrl b2 (fun b hb => oV b (by omega)) (by rw [zz]) (by rw [zz]; show W3.2.1 + 1 ≤ _; omega) (by rw [zz]; show W3.2.2.1 + 3 ≤ _; omega)
  have wV : wF rd W3 V2 := ⟨b2, by rw [zz]; show W3.2.1 ≤ W3.2.1 + 1; omega, by rw [zz], fun b hb _ => oV b (by omega)⟩
  have hK5V : V2.1 (V2.2.2.2 5) = none := by
    rw [zz]
    show V2.1 (W3.2.2.2 5) = none
    rw [oV _ (by omega)]
    exact hK5.1
  obtain ⟨q1', q2', q3', q4', q5', q6'⟩ := sSet_n S nd 6 0 0 0 (4 - o) (fun _ => 0)
  have hT : parT xa rd L N0 M0 p o nd S tp W3 σ3 pl W3.2.1 0 (sSet S nd 6 0 0 0 (4 - o) (fun _ => 0)) (fun x => if x < W3.2.1 then tp x else nd) V2 σ3 (p + 1) it (nd + 1) mo (fun _ => 0) := by
    refine ⟨hV, by omega, wV, tF.rf, Nat.le_refl _, hnd, ⟨by rw [zz]; show W3.2.1 + 1 + 5 ≤ _; omega, by rw [zz]; show W3.2.2.1 + 3 + 117 ≤ _; omega⟩, hG, fun m _ hm => sSet_m S 6 0 0 0 (4 - o) (fun _ => 0) (by omega), ⟨q2', q6'⟩, fun b hb => if_pos hb, ?_, ⟨hK5V, by rw [zz]; exact hK5.2⟩, fun _ _ _ _ => rfl, ⟨r0, fun z => absurd z (by omega), rfl, r7, rfl⟩, ⟨fun _ => rfl, fun z => absurd z (by omega), fun j hj => absurd hj (by omega)⟩, ⟨Nat.le_refl _, if_neg (by omega)⟩, nI 0, W3.2.2.2 5, ?_, Or.inl ⟨rfl, by rw [zz], by rw [oV _ (by omega)]; exact hK5.1⟩⟩
    · show 1000 ≤ (if rd < W3.2.1 then tp rd else nd)
      rw [if_pos hrl]
      exact htp
    · rw [hK1, show (0 : Int32) = nI 0 by decide] at q2
      exact q2
  have hla : V2.1 W3.2.1 = _ := q2
  rw [f_X4_parallel_eq]
  rw [pu_I (k := 0) h2 rfl, pu_B1, e3, pu_B1, e0, pu_B2]
  have hinit : f_J2_init W3.2.1 V0 = some ((), V2) := by
    unfold f_J2_init f_J1_init_c8 f_J0_init_c8
    rw [pu_B2, e1, pu_B1, pu_B2, e2, pu_B1]
  rw [hinit, pu_B2, pu_Ob hV.1, pu_B1]
  show opR xa rd L N0 M0 S tp p o nd W3 σ3 _ (bt_X2_readsParallel_1 rec' (gL3 (bt_X2_readsParallel_1 rec') 19999) (nI nd) (nI 0) (-1) σ3)
  have ht2 : bt_X2_readsParallel_1 rec' (gL3 (bt_X2_readsParallel_1 rec') 19999) (nI nd) (nI 0) (-1) σ3 = (gB2 (rec' (nI nd) (-1) σ3) fun x11 w10 => if x11 = 0 then some ((nI 0), w10) else parK rec' 19999 nd 1 (nd + 1) w10) := by
    generalize hKt : gL3 (bt_X2_readsParallel_1 rec') 19999 = KT
    unfold bt_X2_readsParallel_1
    rw [if_neg (by decide), pu_Bd, n14]
    congr 1
    funext x11 w10
    by_cases hx : x11 = 0
    · rw [if_pos hx, if_pos hx]
    · rw [if_neg hx, if_neg hx, pu_Bd, nI_add]
      unfold parK
      rw [hKt]
  rw [ht2]
  rcases par_one hrec hT (by omega) (by omega) hrl (by omega) hB1 hB2 (bf := -1) (by rw [if_pos rfl]) with hf | ⟨a, W9, σ9, W10, S2, tp3, p2, it2, nd2, mo2, l0, l1, l2, i1, i2, i3, i4, i5, hT2⟩
  · left
    refine pFail.bk hf (wF.rf h3.bd) tF.rf (fun q c v hv => ?_) (fun v hv => ?_)
    · rw [hv, gB2X_l]
    · rw [hv, pu_B2, if_pos hz]
  · rw [i1, gB2X_r, pu_Ob i3, pu_B1, i4, pu_B2, i2, pu_B2, if_neg hz1]
    have := par_loop hrec ho (by omega) h3.bd hrl (by omega) hB1 hB2 (L + 1) (0 + 1) S2 tp3 W10 σ9 p2 it2 nd2 mo2 _ 20000 19999 (by omega) (by omega) (by omega) (by omega) (by omega) hT2
    simp only [Nat.add_sub_cancel, if_true] at this
    exact this
end P2
