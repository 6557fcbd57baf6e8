set_option maxRecDepth 100000
/-! A CHOICE -/
section CH
variable {S : SV} {σ : TS} {xa mo ia i ver T : Nat} {bo un : Option Nat}
theorem choice_ch {n : Nat} (hS : sWf S) (hn : n < sEn S 0) (hk : sKd S n = 5) : sCc S n = 2 ∧ (∃ c, c < 4 ∧ sP S n 1 = nI c) ∧ ∀ j, j < 2 → sKd S (sCh S n j) = 0 ∧ sLv S (sCh S n j) + 1 = sLv S n := by
  rcases (hS.2.2.2.2.2 n hn).2 with z | z | z | z | z | z | z
  · omega
  · omega
  · omega
  · omega
  · omega
  · exact z.2
  · omega
/-- the two children fill the choice -/
theorem choice_in {n j m : Nat} (hS : sWf S) (hn : n < sEn S 0) (hk : sKd S n = 5) (hj : j < 2) (h1 : n < m) (h2 : m < sEn S n) : (sCh S n j ≤ m ∧ m < sEn S (sCh S n j)) ∨ (sCh S n (1 - j) ≤ m ∧ m < sEn S (sCh S n (1 - j))) := by
  have hcc := (choice_ch hS hn hk).1
  obtain ⟨j', q1, q2, q3⟩ := sNode_child (hS.2.2.2.2.2 n hn) h1 h2
  by_cases h : j' = j
  · subst h
    exact Or.inl ⟨q2, q3⟩
  · have : j' = 1 - j := by omega
    subst this
    exact Or.inr ⟨q2, q3⟩
theorem choice_looks {n a l j κ D : Nat} {w : gw} {tg : pT} {s : Nat → Int32} {B B' : Nat} {rec : Int32 → Int32 → TS → Option (Int32 × TS)} (hW : pW S σ xa mo ia i ver T w tg s B bo un) (hn : n < sEn S 0) (hk : sKd S n = 5) (hst : s (21 + 1262 * (i) + (622 + 10 * (n) + 0)) = nI 1) (h7 : s (21 + 1262 * (i) + (622 + 10 * (n) + 7)) = -1) (hj : j < 2) (h2 : s (21 + 1262 * (i) + (622 + 10 * (n) + 2)) = nI (sCh S n j))
    (hun : rUn i s (sCh S n (1 - j)) (sEn S (sCh S n (1 - j)))) (hB : B' ≤ B + 256 * (sEn S n - n)) (hrec : pResB κ S σ xa mo ia i ver T l (sCh S n j) a w tg s B' bo un (f_Run_looks D a w) (rec (nI i) (nI (sCh S n j)) (tS σ s))) :
    pRes κ S σ xa mo ia i ver T (l + 1) n a w tg s B bo un (f_Run_looks D a w) (t_X2_looks rec (nI i) (nI n) (tS σ s)) := by
  have hS : sWf S := hW.1.2.2.1
  have hNs : sEn S 0 ≤ 64 := hS.1
  have hi : i < 6 := hW.1.2.1
  have hN := hS.2.2.2.2.2 n hn
  have hNn := hN.1.2.1
  obtain ⟨hcc, -, hch⟩ := choice_ch hS hn hk
  have hi1 := sNode_in hN (j := j) (by omega)
  have hi2 := sNode_in hN (j := 1 - j) (by omega)
  have hdis : sEn S (sCh S n j) ≤ sCh S n (1 - j) ∨ sEn S (sCh S n (1 - j)) ≤ sCh S n j := by
    rcases (show j = 0 ∨ j = 1 by omega) with rfl | rfl
    · exact Or.inl (sNode_lt hN (by omega) (by omega))
    · exact Or.inr (sNode_lt hN (by omega) (by omega))
  have hcN := sWf_lt hS hn (show j < sCc S n by omega)
  obtain ⟨w1, tg1, s1, o, x, r1, r2, r3, r4, r5, r6, r7, r8⟩ := hrec
  have hout : ∀ m k, m < 64 → k < 10 → (m < sCh S n j ∨ sEn S (sCh S n j) ≤ m) → s1 (21 + 1262 * (i) + (622 + 10 * (m) + k)) = s (21 + 1262 * (i) + (622 + 10 * (m) + k)) := fun m k h1 h2 h3 => r5 _ (by omega) (by omega) (by omega)
  have hst1 : s1 (21 + 1262 * (i) + (622 + 10 * (n) + 0)) = nI 1 := (hout n 0 (by omega) (by omega) (by omega)).trans hst
  obtain ⟨s2, hs2⟩ : ∃ s2, upd s1 (21 + 1262 * (i) + (622 + 10 * (n) + 0)) x = s2 := ⟨_, rfl⟩
  have hne : ∀ q, q ≠ (21 + 1262 * (i) + (622 + 10 * (n) + 0)) → s2 q = s1 q := fun q hq => by rw [← hs2, upd_ne hq]
  have hv : s2 (21 + 1262 * (i) + (622 + 10 * (n) + 0)) = x := by rw [← hs2, upd_self]
  have hx : x = nI 1 ∨ x = nI 2 ∨ x = nI 3 := by
    rcases r8 with z | z | z
    · exact Or.inl z.2.1
    · exact Or.inr (Or.inl z.2.1)
    · exact Or.inr (Or.inr z.2.1)
  have hstc : s1 (21 + 1262 * (i) + (622 + 10 * (sCh S n j) + 0)) = x := by
    rcases r8 with z | z | z
    · rw [z.2.1]; exact z.2.2.1
    · rw [z.2.1]; exact z.2.2.1
    · rw [z.2.1]; exact z.2.2.1
  have hR1 : rB S xa ia i w1 tg1 s1 T true l (sCh S n j) a := by
    rcases r8 with z | z | z
    · exact z.2.2.2
    · exact z.2.2.2.2
    · exact z.2.2.2.2
  have hR2 : rB S xa ia i w1 tg1 s2 T true l (sCh S n j) a := (rB_fr (q := true) (q1 := true) (T := T) (T1 := T) hS rfl (fun _ => ⟨rfl, fun c hc z => (hne _ (by omega)).trans z⟩) (Nat.le_refl _) l).1 _ a hcN (hch j hj).1 (fun _ _ h _ => ⟨h, rfl⟩) (aS.aY hS hcN (fun m k h1 h2 h3 => hne _ (by omega))) hR1
  have hun2 : rUn i s2 (sCh S n (1 - j)) (sEn S (sCh S n (1 - j))) := fun m h1 h2 => by
    rw [hne _ (by omega), hne _ (by omega), hne _ (by omega), hne _ (by omega), hout m 0 (by omega) (by omega) (by omega), hout m 7 (by omega) (by omega) (by omega), hout m 6 (by omega) (by omega) (by omega), hout m 2 (by omega) (by omega) (by omega)]
    exact hun m h1 h2
  have hv7 : s2 (21 + 1262 * (i) + (622 + 10 * (n) + 7)) = -1 := by
    rw [hne _ (by omega), hout n 7 (by omega) (by omega) (by omega)]
    exact h7
  have hv2 : s2 (21 + 1262 * (i) + (622 + 10 * (n) + 2)) = nI (sCh S n j) := by
    rw [hne _ (by omega), hout n 2 (by omega) (by omega) (by omega)]
    exact h2
  have hdead : x ≠ nI 1 → rDead i s2 n (sEn S n) := by
    intro hx1
    have hdc : rDead i s1 (sCh S n j) (sEn S (sCh S n j)) := by
      rcases r8 with z | z | z
      · exact absurd z.2.1 hx1
      · exact z.2.2.2.1
      · exact z.2.2.2.1
    intro m h1 h2
    by_cases hm : m = n
    · subst hm
      rw [hv, hv7]
      exact ⟨rfl, hx1, by rcases hx with rfl | rfl | rfl <;> decide⟩
    · rcases choice_in hS hn hk hj (by omega) h2 with ⟨q1, q2⟩ | ⟨q1, q2⟩
      · rw [hne _ (by omega), hne _ (by omega)]
        exact hdc m q1 q2
      · exact rUn_dead hun2 m q1 q2
  have hRi : rI S xa ia i w1 tg1 s2 T true (l + 1) n a := Or.inr (Or.inr (Or.inr (Or.inr (Or.inl ⟨hk, hv7, by rw [hv]; rcases hx with rfl | rfl | rfl <;> decide, j, hj, hv2, hR2, hun2, fun z => by
    rw [hv] at z
    rw [hne _ (by omega), hstc]
    exact z, fun z => hdead (by rw [hv] at z; exact z)⟩))))
  have hpk : pRs i w1 w1 s1 s2 := by
    have hp := pPh_at (i := i) (n := n) (s := s1) (s1 := s2) (by omega) (fun m _ hm => hne _ (by omega))
    rw [hv, hst1, if_neg (by decide), if_pos rfl] at hp
    rcases hx with rfl | rfl | rfl
    · rw [if_neg (by decide), if_pos rfl] at hp
      constructor <;> omega
    · rw [if_neg (by decide), if_neg (by decide)] at hp
      constructor <;> omega
    · rw [if_neg (by decide), if_neg (by decide)] at hp
      constructor <;> omega
  refine ⟨w1, tg1, s2, o, x, r1, ?_, (r3.rows (fun q hq => hne q (by omega)) (fun m _ hm => ⟨by rw [hne _ (by have : m ≠ n := (by rintro rfl; omega); omega)], fun _ => ⟨hne _ (by omega), hne _ (by omega)⟩⟩)).mono hB, r4.mono (fun t z => ?_), ?_, pRs.k r6 hpk, fun c hc z => (hne _ (by omega)).trans (r7 c hc z), ?_⟩
  · have k0 := hW.np (n := n) (k := 0) hn (by omega)
    rw [hN.1.2.2.1, hk] at k0
    have e2 : ∀ w : TS, t_X2_at (nI i) (nI n) (nI 2) w = _ := fun w => pt_at w
    unfold t_X2_looks
    rw [k0, pu_B2, if_neg (by decide), if_neg (by decide), if_neg (by decide), if_neg (by decide), if_pos rfl, e2, pu_B2, pu_ld5 (by omega), pu_B1, h2, r2, pu_B2, pt_comesTo hi (by omega), pu_B2, hs2]
  · rcases z with z | z
    · exact Or.inl ⟨z.1, by have := z.2; omega⟩
    · exact Or.inr z
  · have h1 : pQ i n (sEn S n) s s1 := r5.mono (by omega) (by omega)
    exact h1.tr (fun q a b c => hne q (by have := hN.1.1; omega))
  · rcases r8 with z | z | z
    · exact Or.inl ⟨z.1, Or.inl z.2.1, hv, hRi⟩
    · exact Or.inr (Or.inl ⟨z.1, z.2.1, by rw [hv]; exact z.2.1, hdead (by rw [z.2.1]; decide), hRi⟩)
    · exact Or.inr (Or.inr ⟨z.1, z.2.1, by rw [hv]; exact z.2.1, hdead (by rw [z.2.1]; decide), hRi⟩)
theorem choice_fresh {n a l D d : Nat} {w : gw} {tg : pT} {s : Nat → Int32} {B : Nat} (hsim : simB S σ xa mo ia i ver T bo un l D d) (hW : pW S σ xa mo ia i ver T w tg s B bo un) (hB : B + 256 * (sEn S n - n) < 2 ^ 31) (hRm : pRm i w (upd s (21 + 1262 * (i) + (622 + 10 * (n) + 0)) (nI 1))) (hn : n < sEn S 0) (hk : sKd S n = 5) (hlv : sLv S n = l + 1) (hun : rUn i s n (sEn S n)) (hf : rFr S xa ia i w tg s T n a) :
    pRes 4 S σ xa mo ia i ver T (l + 1) n a w tg s B bo un (f_Run_looks D a w) (t_X2_begins (t_X2_looksAtBody d) (nI i) (nI n) (tS σ s)) := by
  have hS : sWf S := hW.1.2.2.1
  have hNs : sEn S 0 ≤ 64 := hS.1
  have hi : i < 6 := hW.1.2.1
  have hN := hS.2.2.2.2.2 n hn
  have hNn := hN.1.2.1
  have hl0 := hN.1.1
  obtain ⟨hcc, -, hch⟩ := choice_ch hS hn hk
  obtain ⟨u0, u7, u6, u2⟩ := hun n (Nat.le_refl _) hl0
  rcases hf with ⟨k1, k2, -⟩ | ⟨-, j, c, hj, hc4, hc, hsel, hbf⟩ | ⟨z, -⟩
  · omega
  · have hi1 := sNode_in hN (j := j) (by omega)
    have hi2 := sNode_in hN (j := 1 - j) (by omega)
    have hcN := sWf_lt hS hn (show j < sCc S n by omega)
    have hWb := hW.beg hn u0
    obtain ⟨s0, hs0⟩ : ∃ s0, upd (uBeg i n s) (21 + 1262 * (i) + (622 + 10 * (n) + 2)) (nI (sCh S n j)) = s0 := ⟨_, rfl⟩
    have hne : ∀ q, q ≠ (21 + 1262 * (i) + (622 + 10 * (n) + 0)) → q ≠ (21 + 1262 * (i) + (622 + 10 * (n) + 1)) → q ≠ (21 + 1262 * (i) + (622 + 10 * (n) + 2)) → s0 q = s q := fun q a b c => by rw [← hs0, upd_ne c, uBeg_ne a b]
    have hst : s0 (21 + 1262 * (i) + (622 + 10 * (n) + 0)) = nI 1 := by rw [← hs0, upd_ne (by omega), uBeg_0]
    have hv2 : s0 (21 + 1262 * (i) + (622 + 10 * (n) + 2)) = nI (sCh S n j) := by rw [← hs0, upd_self]
    have hW0 : pW S σ xa mo ia i ver T w tg s0 B bo un := hWb.rows (fun q hq => by rw [← hs0, upd_ne (by omega)]) (fun m _ hm => ⟨by rw [← hs0, upd_ne (by omega)], fun _ => ⟨by rw [← hs0, upd_ne (by omega)], by rw [← hs0, upd_ne (by omega)]⟩⟩)
    have hunc : ∀ m, n < m → m < sEn S n → s0 (21 + 1262 * (i) + (622 + 10 * (m) + 0)) = nI 0 ∧ s0 (21 + 1262 * (i) + (622 + 10 * (m) + 7)) = -1 ∧ s0 (21 + 1262 * (i) + (622 + 10 * (m) + 6)) = nI 0 ∧ s0 (21 + 1262 * (i) + (622 + 10 * (m) + 2)) = nI 0 := fun m h1 h2 => by
      rw [hne _ (by omega) (by omega) (by omega), hne _ (by omega) (by omega) (by omega), hne _ (by omega) (by omega) (by omega), hne _ (by omega) (by omega) (by omega)]
      exact hun m (by omega) h2
    have hc0 : s0 (21 + 1262 * (i) + (622 + 10 * (sCh S n j) + 0)) = nI 0 := (hunc _ (by omega) (by omega)).1
    have hp1 := pPh_at (i := i) (n := sCh S n j) (s := s0) (s1 := upd s0 (21 + 1262 * (i) + (622 + 10 * (sCh S n j) + 0)) (nI 1)) (by omega) (fun m _ hm => upd_ne (by omega))
    rw [upd_self, hc0, if_pos rfl, if_neg (by decide), if_pos rfl] at hp1
    have hp2 : pPh i s0 = pPh i (upd s (21 + 1262 * (i) + (622 + 10 * (n) + 0)) (nI 1)) := pPh_eq (fun m hm => by
      by_cases hmn : m = n
      · subst hmn
        rw [hst, upd_self]
      · rw [hne _ (by omega) (by omega) (by omega), upd_ne (by omega)])
    have hrec := hsim.2 (sCh S n j) a w tg s0 B hcN (hch j hj).1 (by have := (hch j hj).2; omega) hW0 (by omega) (by
      unfold pRm at hRm ⊢
      constructor <;> omega) (fun m h1 h2 => hunc m (by omega) (by omega)) hbf
    have hlk := choice_looks hW0 hn hk hst ((hne _ (by omega) (by omega) (by omega)).trans u7) hj hv2 (fun m h1 h2 => hunc m (by omega) (by omega)) (by omega) hrec
    obtain ⟨w1, tg1, s1, o, x, v1, v2, v3, v4, v5, v6, v7, v8⟩ := hlk
    have hrk : pRk 4 i w w1 s s1 := by
      have hp3 := pPh_at (i := i) (n := n) (s := s) (s1 := upd s (21 + 1262 * (i) + (622 + 10 * (n) + 0)) (nI 1)) (by omega) (fun m _ hm => upd_ne (by omega))
      rw [upd_self, u0, if_pos rfl, if_neg (by decide), if_pos rfl] at hp3
      obtain ⟨q1, q2⟩ := v6
      constructor <;> omega
    refine ⟨w1, tg1, s1, o, x, v1, ?_, v3, v4, ?_, hrk, fun c hc z => v7 c hc ((hne _ (by omega) (by omega) (by omega)).trans z), v8⟩
    · have k0 : t_X2_nodePart (nI i) (nI n) (nI 0) (tS σ (uBeg i n s)) = some (nI 5, tS σ (uBeg i n s)) := by rw [hWb.np hn (by omega), hN.1.2.2.1, hk]
      have k5 : t_X2_nodePart (nI i) (nI n) (nI 5) (tS σ (uBeg i n s)) = some (nI (sCh S n 0), tS σ (uBeg i n s)) := by
        rw [hWb.np hn (by omega), hN.1.2.2.2.1]
        unfold sAt
        rw [if_pos (by omega)]
      have k1 : t_X2_nodePart (nI i) (nI n) (nI 1) (tS σ (uBeg i n s)) = some (nI c, tS σ (uBeg i n s)) := by rw [hWb.np hn (by omega), hc]
      have k2 : t_X2_nodePart (nI i) (nI n) (nI 2) (tS σ (uBeg i n s)) = some (sP S n 2, tS σ (uBeg i n s)) := hWb.np hn (by omega)
      have k6 : t_X2_nodePart (nI i) (nI (sCh S n 0)) (nI 6) (tS σ (uBeg i n s)) = some (nI (sCh S n 1), tS σ (uBeg i n s)) := by
        rw [hWb.np (sWf_lt hS hn (by omega)) (by omega), (hN.1.2.2.2.2.2 0 (by omega)).2.2.1]
        unfold sAt
        rw [if_pos (by omega)]
      have en0 : ∀ w : TS, t_X2_at (nI i) (nI n) (nI 0) w = _ := fun w => pt_at w
      have en1 : ∀ w : TS, t_X2_at (nI i) (nI n) (nI 1) w = _ := fun w => pt_at w
      have en2 : ∀ w : TS, t_X2_at (nI i) (nI n) (nI 2) w = _ := fun w => pt_at w
      have eof : ∀ w : TS, t_X2_of (nI i) (nI (10 + c)) w = _ := fun w => pt_of w
      have hu : upd (upd s (21 + 1262 * (i) + (622 + 10 * (n) + 0)) (nI 1)) (21 + 1262 * (i) + (622 + 10 * (n) + 1)) (s 0) = uBeg i n s := rfl
      have y1 : ¬ nI 5 = nI 1 := by decide
      have y6 : ¬ nI 5 = nI 6 := by decide
      have z0 : nI 0 = 0 := by decide
      have z1 : ¬ nI 1 = 0 := by decide
      have hvar : uBeg i n s (21 + 1262 * (i) + (10 + c)) = s (21 + 1262 * (i) + (10 + c)) := uBeg_ne (by omega) (by omega)
      have hst2 : tSt (tS σ (uBeg i n s)) 5 (nI (21 + 1262 * (i) + (622 + 10 * (n) + 2))) (nI (sCh S n j)) = some (tS σ s0) := by rw [pu_st5 (by omega), hs0]
      unfold t_X2_begins
      rw [en0, pu_B2, pu_st5 (by omega), pu_B1, en1, pu_B2, pu_ld5 (by omega), pu_B1, pu_st5 (by omega), pu_B1, upd_ne (by omega), hu, k0, pu_B2, pu_Bd, if_neg y1]
      try dsimp only
      rw [pu_Bd, if_pos rfl, k5, pu_B2, k1, pu_B2, nI_add, eof, pu_B2, pu_ld5 (by omega), pu_B1, hvar, k2, pu_B2, pu_Bd]
      try dsimp only
      rcases hsel with ⟨hs1, rfl⟩ | ⟨hs1, rfl⟩
      · rw [if_neg (Int32.not_le.mpr hs1)]
        try dsimp only
        rw [en2, pu_B2, pu_Bd, if_neg z1]
        try dsimp only
        rw [hst2, pu_B1, pu_Bd, if_neg y6]
        try dsimp only
        rw [v2]
        rfl
      · rw [if_pos (Int32.not_lt.mp hs1)]
        try dsimp only
        rw [en2, pu_B2, pu_Bd, if_pos z0, k6, pu_B2]
        try dsimp only
        rw [hst2, pu_B1, pu_Bd, if_neg y6]
        try dsimp only
        rw [v2]
        rfl
    · exact pQ.tr (fun q a b c => hne q (by omega) (by omega) (by omega)) v5
  · omega
end CH
