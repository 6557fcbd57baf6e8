set_option maxRecDepth 100000
/-! A BODY's LOOKS, out of its items' -/
section BL
variable (S : SV) (σ : TS) (xa mo ia i ver T : Nat) (bo un : Option Nat)
/-- what is owed of the items of a level: looks, first looks, begins -/
def simLk (l D d : Nat) : Prop := ∀ n a w tg s B T0 q, n < sEn S 0 → sKd S n ≠ 0 → sLv S n = l → pW S σ xa mo ia i ver T w tg s B bo un → B + 256 * (sEn S n - n) < 2 ^ 31 → pRm i w s → rI S xa ia i w tg s T0 q l n a → rLive i s n →
  pRes 0 S σ xa mo ia i ver T l n a w tg s B bo un (f_Run_looks D a w) (t_X2_looks (t_X2_looksAtBody d) (nI i) (nI n) (tS σ s))
def simFr (l D d : Nat) : Prop := ∀ n a w tg s B, n < sEn S 0 → sKd S n ≠ 0 → sLv S n = l → pW S σ xa mo ia i ver T w tg s B bo un → B + 256 * (sEn S n - n) < 2 ^ 31 → pRm i w (upd s (21 + 1262 * (i) + (622 + 10 * (n) + 0)) (nI 1)) → rUn i s n (sEn S n) → rFr S xa ia i w tg s T n a →
  pRes 4 S σ xa mo ia i ver T l n a w tg s B bo un (f_Run_looks D a w) (t_X2_begins (t_X2_looksAtBody d) (nI i) (nI n) (tS σ s))
def simBg : Prop := ∀ n w tg s B, n < sEn S 0 → sKd S n ≠ 0 → pW S σ xa mo ia i ver T w tg s B bo un → rUn i s n (sEn S n) → w.2.1 + 4 ≤ w.2.2.2 0 → w.2.2.1 + 48 ≤ w.2.2.2 1 →
  ∃ a w1 tg1, f_Node_begins (sSa S n) (some ia) w = some (some a, w1) ∧ pW S σ xa mo ia i ver T w1 tg1 s B bo un ∧ pFr w w1 tg tg1 (fun _ => False) ∧ w1.2.1 ≤ w.2.1 + 4 ∧ w1.2.2.1 ≤ w.2.2.1 + 48 ∧ rFr S xa ia i w1 tg1 s T n a
def simB (l D d : Nat) : Prop :=
  (∀ b a w tg s B T0 q, b < sEn S 0 → sKd S b = 0 → sLv S b = l → pW S σ xa mo ia i ver T w tg s B bo un → B + 256 * (sEn S b - b) < 2 ^ 31 → pRm i w s → rB S xa ia i w tg s T0 q l b a → s (21 + 1262 * (i) + (622 + 10 * (b) + 0)) = nI 1 →
    pResB 0 S σ xa mo ia i ver T l b a w tg s (B + 256 * (sEn S b - b)) bo un (f_Run_looks D a w) (t_X2_looksAtBody d (nI i) (nI b) (tS σ s))) ∧
  (∀ b a w tg s B, b < sEn S 0 → sKd S b = 0 → sLv S b = l → pW S σ xa mo ia i ver T w tg s B bo un → B + 256 * (sEn S b - b) < 2 ^ 31 → pRm i w (upd s (21 + 1262 * (i) + (622 + 10 * (b) + 0)) (nI 1)) → rUn i s b (sEn S b) → rBf S xa ia w tg b a →
    pResB 4 S σ xa mo ia i ver T l b a w tg s (B + 256 * (sEn S b - b)) bo un (f_Run_looks D a w) (t_X2_looksAtBody d (nI i) (nI b) (tS σ s)))
end BL
section BM
variable {S : SV} {σ : TS} {xa mo ia i ver T : Nat} {bo un : Option Nat}
theorem sBody {w : gw} {tg : pT} {b : Nat} (hO : sObjs S w tg) (hb : b < sEn S 0) (hk : sKd S b = 0) : ∃ la g ea cap mc, w.1 (sSa S b) = some (.inl (5, [ga (some la)])) ∧ w.1 la = some (.inl (8, [gi mc, ga (some ea), gi (nI (sCc S b))])) ∧ w.1 ea = some (.inr (2, cap, .inr g)) ∧ sCc S b ≤ cap ∧ cap < 1000 ∧ ∀ j, j < sCc S b → g j = some (sSa S (sCh S b j)) := by
  obtain ⟨-, h⟩ := hO b hb
  rcases h with ⟨h1, la, g, h2, ⟨h3, ea, cap, mc, h4, h5, h6, h7, h8⟩, h9⟩ | h | h | h | h | h | h
  · exact ⟨la, g, ea, cap, mc, h2, h5, h6, h7, h8, h9⟩
  all_goals (exfalso; have := h.1; omega)
theorem sItem_ck {w : gw} {tg : pT} {n : Nat} (hO : sObjs S w tg) (hn : n < sEn S 0) (hk : sKd S n ≠ 0) : gCk w [9, 10, 11, 12, 13, 14] (some (sSa S n)) = some (some (sSa S n)) := by
  obtain ⟨-, h⟩ := hO n hn
  have hc : ∀ c fs, w.1 (sSa S n) = some (.inl (c, fs)) → ([9, 10, 11, 12, 13, 14] : List Nat).contains c = true → gCk w [9, 10, 11, 12, 13, 14] (some (sSa S n)) = some (some (sSa S n)) := by
    intro c fs h1 h2
    show (match gCls w (sSa S n) with | some c => if ([9, 10, 11, 12, 13, 14] : List Nat).contains c then some (some (sSa S n)) else none | none => none) = _
    rw [pu_Cls h1]
    show (if ([9, 10, 11, 12, 13, 14] : List Nat).contains c = true then some (some (sSa S n)) else none) = _
    rw [if_pos h2]
  rcases h with ⟨h1, -⟩ | ⟨h1, h2⟩ | ⟨h1, h2⟩ | ⟨h1, h2⟩ | ⟨h1, h2⟩ | ⟨h1, h2⟩ | ⟨h1, la, g, h2, -⟩
  · exact absurd h1 hk
  · exact hc _ _ h2 (by decide)
  · exact hc _ _ h2 (by decide)
  · exact hc _ _ h2 (by decide)
  · exact hc _ _ h2 (by decide)
  · exact hc _ _ h2 (by decide)
  · exact hc _ _ h2 (by decide)
theorem body_loop {l b a D d : Nat} (hS : sWf S) (hb : b < sEn S 0) (hk : sKd S b = 0) (hlv : sLv S b = l) (hl : l ≤ 4) (hLk : simLk S σ xa mo ia i ver T bo un l D d) (hFr : simFr S σ xa mo ia i ver T bo un l D d) (hBg : simBg S σ xa mo ia i ver T bo un) :
    ∀ (r idx : Nat) (cur : Option Nat) (dd da : Nat) (L : List Nat) (f : Nat → Int32) (w : gw) (tg : pT) (s : Nat → Int32) (B fuel fuel2 : Nat), idx + r = sCc S b → r + 2 ≤ fuel → r + 2 ≤ fuel2 → pW S σ xa mo ia i ver T w tg s B bo un → B + 256 * (sEn S b - sCp S b idx) < 2 ^ 31 → pRm i w s →
      bCell S xa ia b a idx cur dd da L f w tg → bRow S i b idx L s → (cur = none ∧ rUn i s (sCp S b idx) (sEn S b) ∨ ∃ a' T0 q, cur = some a' ∧ idx < sCc S b ∧ rI S xa ia i w tg s T0 q l (sCh S b idx) a' ∧ rLive i s (sCh S b idx) ∧ rUn i s (sEn S (sCh S b idx)) (sEn S b)) →
      pResB 0 S σ xa mo ia i ver T l b a w tg s (B + 256 * (sEn S b - sCp S b idx)) bo un (gL0 (bf_X18_looks_1 a (f_Run_looks D)) fuel w) (gL3 (bt_X2_looksAtBody_s_1 (t_X2_looksAtBody d)) fuel2 (nI i) (nI b) (sAt S b idx) (tS σ s)) := by
  have hNs : sEn S 0 ≤ 64 := hS.1
  have hN := hS.2.2.2.2.2 b hb
  have hNb := hN.1.2.1
  intro r
  induction r with
  | zero =>
    intro idx cur dd da L f w tg s B fuel fuel2 hidx hf hf2 hW hB hRm hc hr hcur
    obtain ⟨fu, rfl⟩ : ∃ fu, fuel = fu + 1 := ⟨fuel - 1, by omega⟩
    obtain ⟨fu2, rfl⟩ : ∃ fu2, fuel2 = fu2 + 1 := ⟨fuel2 - 1, by omega⟩
    have hi : i < 6 := hW.1.2.1
    rcases hcur with ⟨rfl, hu⟩ | ⟨a', T0, q, -, hlt, -⟩
    · obtain rfl : idx = sCc S b := by omega
      have hr0 := hr
      obtain ⟨b1, b2, b3, b4, b5, b6⟩ := hr
      obtain ⟨v1, v2⟩ := bOver (l := l) (T := T) (q := true) hS hb hk hc ⟨b1, b2, b3, b4⟩ hu (Or.inl rfl)
      obtain ⟨la, g, ea, cap, mc, q1, q2, q3, q4, q5, q6⟩ := sBody hW.2.2.1 hb hk
      obtain ⟨a1, a2, -⟩ := hc
      refine ⟨w, tg, upd s (21 + 1262 * (i) + (622 + 10 * (b) + 0)) (nI 2), w.2.2.2 3, nI 2, ?_, ?_, ?_, pFr.rf hW.bd, pQ.upd _ (by have := hN.1.1; omega), pRk.z (leaf_rk (by omega) rfl b6 (by decide) (upd_self _ _ _) (fun m _ hm => upd_ne (by omega))).s, fun c hc z => ?_, Or.inr (Or.inl ⟨rfl, rfl, upd_self _ _ _, v1, v2⟩)⟩
      · show bf_X18_looks_1 a (f_Run_looks D) (gL0 (bf_X18_looks_1 a (f_Run_looks D)) fu) w = _
        generalize gL0 (bf_X18_looks_1 a (f_Run_looks D)) fu = KK
        unfold bf_X18_looks_1
        rw [pu_I (k := 4) a2 rfl, pu_B1, pu_R (k := 2) a2 rfl, pu_B1, pu_B1, pu_R (k := 0) q1 rfl, pu_B1, pu_B1, pu_Ob q2, pu_B1, pf_size q2, pu_B2, if_pos (Int32.le_refl _)]
      · show bt_X2_looksAtBody_s_1 (t_X2_looksAtBody d) (gL3 (bt_X2_looksAtBody_s_1 (t_X2_looksAtBody d)) fu2) (nI i) (nI b) (sAt S b (sCc S b)) (tS σ s) = _
        generalize gL3 (bt_X2_looksAtBody_s_1 (t_X2_looksAtBody d)) fu2 = KK
        have e1 : sAt S b (sCc S b) = -1 := by
          unfold sAt
          rw [if_neg (by omega)]
        unfold bt_X2_looksAtBody_s_1
        rw [e1, if_pos (by decide), pt_comesTo hi (by omega), pu_B2]
      · exact (hW.rows (fun j hj => upd_ne (by omega)) (fun m _ hm => ⟨by rw [upd_ne (by have : m ≠ b := (by rintro rfl; omega); omega)], fun _ => ⟨upd_ne (by omega), upd_ne (by omega)⟩⟩)).mono (by omega)
      · rw [upd_ne (by omega)]
        exact z
    · omega
  | succ r ih =>
    intro idx cur dd da L f w tg s B fuel fuel2 hidx hf hf2 hW hB hRm hc hr hcur
    obtain ⟨fu, rfl⟩ : ∃ fu, fuel = fu + 1 := ⟨fuel - 1, by omega⟩
    obtain ⟨fu2, rfl⟩ : ∃ fu2, fuel2 = fu2 + 1 := ⟨fuel2 - 1, by omega⟩
    have hi : i < 6 := hW.1.2.1
    have hlt : idx < sCc S b := by omega
    have hi' := sNode_in hN hlt
    have hcp0 : sCp S b idx = sCh S b idx := hi'.2.2.2.1
    have hcp1 : sCp S b (idx + 1) = sEn S (sCh S b idx) := hi'.2.2.2.2.symm
    have hnN := sWf_lt hS hb hlt
    obtain ⟨hkn, hlvn⟩ : sKd S (sCh S b idx) ≠ 0 ∧ sLv S (sCh S b idx) = l := by
      rcases hN.2 with z | z | z | z | z | z | z
      · exact ⟨(z.2.2 idx hlt).1, (z.2.2 idx hlt).2.trans hlv⟩
      all_goals omega
    have hBsum : B + 256 * (sEn S (sCh S b idx) - sCh S b idx) + 256 * (sEn S b - sCp S b (idx + 1)) = B + 256 * (sEn S b - sCp S b idx) := by
      rw [hcp0, hcp1]
      omega
    obtain ⟨la, g, ea, cap, mc, q1, q2, q3, q4, q5, q6⟩ := sBody hW.2.2.1 hb hk
    have hc0 := hc
    obtain ⟨a1, a2, a3, a4, a5, a6, a7⟩ := hc
    have eAt : sAt S b idx = nI (sCh S b idx) := by
      unfold sAt
      rw [if_pos hlt]
    have e0 : ¬ nI (sCc S b) ≤ nI idx := nI_ge hlt (by
      have h1 : sCc S b ≤ cap := q4
      omega)
    have e1 : ¬ nI (sCh S b idx) < 0 := nI_pos (by omega)
    have ea0 : ∀ w : TS, t_X2_at (nI i) (nI (sCh S b idx)) (nI 0) w = _ := fun w => pt_at w
    show pResB 0 S σ xa mo ia i ver T l b a w tg s _ bo un (bf_X18_looks_1 a (f_Run_looks D) (gL0 (bf_X18_looks_1 a (f_Run_looks D)) fu) w) (bt_X2_looksAtBody_s_1 (t_X2_looksAtBody d) (gL3 (bt_X2_looksAtBody_s_1 (t_X2_looksAtBody d)) fu2) (nI i) (nI b) (sAt S b idx) (tS σ s))
    rcases hcur with ⟨rfl, hu⟩ | ⟨a', T0, q, rfl, -, hR, hlive, hu⟩
    · -- the item begins
      have hun : rUn i s (sCh S b idx) (sEn S (sCh S b idx)) := fun m h1 h2 => hu m (by omega) (by omega)
      have hu2 : rUn i s (sEn S (sCh S b idx)) (sEn S b) := fun m h1 h2 => hu m (by omega) h2
      have hst0 : s (21 + 1262 * (i) + (622 + 10 * (sCh S b idx) + 0)) = nI 0 := (hun _ (Nat.le_refl _) (by omega)).1
      have hph := pPh_ge (i := i) (s := s) (n := sCh S b idx) (x := 12) (by omega) (by rw [hst0, if_pos rfl])
      obtain ⟨a', w0, tg0, p1, p2, p3, p4, p5, p6⟩ := hBg _ w tg s B hnN hkn hW hun (by have := hRm.1; omega) (by have := hRm.2; omega)
      have hc1 := hc0.fr hW.bd p3 id
      obtain ⟨c1, c2, c3, c4, c5, c6, c7⟩ := hc1
      have hW1 := p2.put (e := .inl (18, [ga (some ia), ga (some xa), ga (some (sSa S b)), ga (some a'), gi (nI idx), ga (some dd), ga (some xa)])) c2 c1 (by omega)
      have hfrp : pFr w0 (hs w0 a (.inl (18, [ga (some ia), ga (some xa), ga (some (sSa S b)), ga (some a'), gi (nI idx), ga (some dd), ga (some xa)]))) tg0 tg0 (fun t => t = (ia, b)) := pFr.hs p2.bd c2 c1
      have hia := hW.1.1
      have hrf := p6.fr hS hnN (hfrp.aW p2.bd (fun t ht z => by
        rcases ht with ht | ht
        · rw [z] at ht
          have := ht.2.1
          simp only at this
          omega
        · rw [z] at ht
          exact hia (congrArg Prod.fst ht)))
      have hK1 : (hs w0 a (.inl (18, [ga (some ia), ga (some xa), ga (some (sSa S b)), ga (some a'), gi (nI idx), ga (some dd), ga (some xa)]))).2.2.2 = w.2.2.2 := p3.2.2.1
      have hada : a ≠ da := ne_of c2 c6 (by simp)
      have hadd : a ≠ dd := ne_of c2 c4 (by simp)
      have hcB : bCell S xa ia b a idx (some a') dd da L f (hs w0 a (.inl (18, [ga (some ia), ga (some xa), ga (some (sSa S b)), ga (some a'), gi (nI idx), ga (some dd), ga (some xa)]))) tg0 := ⟨c1, hs_self _ _ _, c3, (hs_ne hadd.symm).trans c4, c5, (hs_ne hada.symm).trans c6, c7⟩
      have hpp := pPh_at (i := i) (n := sCh S b idx) (s := s) (s1 := upd s (21 + 1262 * (i) + (622 + 10 * (sCh S b idx) + 0)) (nI 1)) (by omega) (fun m _ hm => upd_ne (by omega))
      rw [upd_self, hst0, if_pos rfl, if_neg (by decide), if_pos rfl] at hpp
      have hRm1 : pRm i (hs w0 a (.inl (18, [ga (some ia), ga (some xa), ga (some (sSa S b)), ga (some a'), gi (nI idx), ga (some dd), ga (some xa)]))) (upd s (21 + 1262 * (i) + (622 + 10 * (sCh S b idx) + 0)) (nI 1)) := by
        unfold pRm at hRm ⊢
        rw [hK1]
        constructor
        · show w0.2.1 + _ ≤ _
          omega
        · show w0.2.2.1 + _ ≤ _
          omega
      have hres := hFr _ a' _ tg0 s B hnN hkn hlvn hW1 (by omega) hRm1 hun hrf
      have hfin := body_after (KK := gL0 (bf_X18_looks_1 a (f_Run_looks D)) fu) (KK2 := gL3 (bt_X2_looksAtBody_s_1 (t_X2_looksAtBody d)) fu2) hS hb hk hl hlt hB hcB hr hu2 hW1.bd hres (fun w1 tg1 s1 L1 f1 k1 k2 k3 k4 k5 k6 => by
        rw [← hBsum]
        refine ih (idx + 1) none dd da L1 f1 w1 tg1 s1 _ fu fu2 (by omega) (by omega) (by omega) k1 (by omega) ?_ k2 k3 (Or.inl ⟨rfl, k4⟩)
        unfold pRm at hRm ⊢
        rw [k6, hK1]
        obtain ⟨k7, k8⟩ := k5
        have k7 : w1.2.1 + pPh i s1 + 4 ≤ w0.2.1 + pPh i s := k7
        have k8 : w1.2.2.1 + 12 * pPh i s1 + 12 * 4 ≤ w0.2.2.1 + 12 * pPh i s := k8
        constructor <;> omega)
      obtain ⟨w1, tg1, s1, o, x, v1, v2, v3, v4, v5, v6, v7, v8⟩ := hfin
      refine ⟨w1, tg1, s1, o, x, ?_, ?_, v3, ((p3.mono (fun _ z => z.elim)).tr (hfrp.mono (fun t z => by rw [z]; exact Or.inl ⟨rfl, Or.inl ⟨Nat.le_refl _, hN.1.1⟩⟩))).tr v4, v5, ?_, v7, v8⟩
      · have hget := pf_get (j := idx) q2 q3 hlt q4 q5
        rw [q6 idx hlt] at hget
        have hck := sItem_ck hW.2.2.1 hnN hkn
        generalize gL0 (bf_X18_looks_1 a (f_Run_looks D)) fu = KK at v1 ⊢
        unfold bf_X18_looks_1
        rw [pu_I (k := 4) a2 rfl, pu_B1, pu_R (k := 2) a2 rfl, pu_B1, pu_B1, pu_R (k := 0) q1 rfl, pu_B1, pu_B1, pu_Ob q2, pu_B1, pf_size q2, pu_B2, if_neg e0, pu_R (k := 3) a2 rfl, pu_B1, pu_Bd, pu_Nn, pu_R (k := 2) a2 rfl, pu_B1, pu_B1, pu_R (k := 0) q1 rfl, pu_B1, pu_I (k := 4) a2 rfl, pu_B1, pu_B1, pu_Ob q2, pu_B1, hget, pu_B2, hck, pu_B1, pu_R (k := 0) a2 rfl, pu_B1, pu_B1, p1, pu_B2, pu_Put c2 (by show 3 < 7; omega), pu_B1]
        exact v1
      · generalize gL3 (bt_X2_looksAtBody_s_1 (t_X2_looksAtBody d)) fu2 = KK at v2 ⊢
        have z0 : nI 0 = 0 := by decide
        unfold bt_X2_looksAtBody_s_1
        rw [eAt, if_neg e1, ea0, pu_B2, pu_ld5 (by omega), pu_B1, hst0, pu_Bd, if_pos z0]
        exact v2
      · obtain ⟨k7, k8⟩ := v6
        have k7 : w1.2.1 + pPh i s1 + 4 ≤ w0.2.1 + pPh i s := k7
        have k8 : w1.2.2.1 + 12 * pPh i s1 + 12 * 4 ≤ w0.2.2.1 + 12 * pPh i s := k8
        constructor <;> omega
    · -- the item goes on
      have hres := hLk _ a' w tg s B T0 q hnN hkn hlvn hW (by omega) hRm hR hlive
      have hfin := body_after (KK := gL0 (bf_X18_looks_1 a (f_Run_looks D)) fu) (KK2 := gL3 (bt_X2_looksAtBody_s_1 (t_X2_looksAtBody d)) fu2) hS hb hk hl hlt hB hc0 hr hu hW.bd hres (fun w1 tg1 s1 L1 f1 k1 k2 k3 k4 k5 k6 => by
        rw [← hBsum]
        exact ih (idx + 1) none dd da L1 f1 w1 tg1 s1 _ fu fu2 (by omega) (by omega) (by omega) k1 (by omega) (hRm.tr k5.s k6) k2 k3 (Or.inl ⟨rfl, k4⟩))
      obtain ⟨w1, tg1, s1, o, x, v1, v2, v3, v4, v5, v6, v7, v8⟩ := hfin
      refine ⟨w1, tg1, s1, o, x, ?_, ?_, v3, v4, v5, v6, v7, v8⟩
      · generalize gL0 (bf_X18_looks_1 a (f_Run_looks D)) fu = KK at v1 ⊢
        unfold bf_X18_looks_1
        rw [pu_I (k := 4) a2 rfl, pu_B1, pu_R (k := 2) a2 rfl, pu_B1, pu_B1, pu_R (k := 0) q1 rfl, pu_B1, pu_B1, pu_Ob q2, pu_B1, pf_size q2, pu_B2, if_neg e0, pu_R (k := 3) a2 rfl, pu_B1, pu_Bd, pu_Ns]
        exact v1
      · generalize gL3 (bt_X2_looksAtBody_s_1 (t_X2_looksAtBody d)) fu2 = KK at v2 ⊢
        unfold bt_X2_looksAtBody_s_1
        rcases hlive with hst | hst
        · have z0 : ¬ nI 1 = 0 := by decide
          rw [eAt, if_neg e1, ea0, pu_B2, pu_ld5 (by omega), pu_B1, hst, pu_Bd, if_neg z0, pu_Bd, if_pos rfl]
          exact v2
        · have z0 : ¬ nI 5 = 0 := by decide
          have z1 : ¬ nI 5 = nI 1 := by decide
          rw [eAt, if_neg e1, ea0, pu_B2, pu_ld5 (by omega), pu_B1, hst, pu_Bd, if_neg z0, pu_Bd, if_neg z1, if_pos rfl]
          exact v2
end BM
