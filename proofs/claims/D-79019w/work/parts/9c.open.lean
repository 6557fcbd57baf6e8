set_option maxRecDepth 100000
/-! READING: choices -/
section OP
variable {xa rd L N0 M0 p o it nd mo : Nat} {w : gw} {σ : TS} {S : SV} {tp : Nat → Nat}
/-- the reader's cell and the reference's numbers anew -/
theorem pSt.re (h : pSt xa rd L N0 M0 w σ p o it nd mo) {W : gw} {τ : TS} {p1 o1 it1 nd1 mo1 : Nat} (q1 : W.1 rd = some (.inl (4, [gi (nI p1), gi (nI o1), gi (nI it1), ga (some xa)]))) (oo : ∀ b, b ≠ rd → W.1 b = w.1 b) (z1 : W.2 = w.2) (b1 : pBd W) (hp : p1 ≤ L) (t8 : τ 8 = σ 8) (t9 : τ 0 9 = σ 0 9) (t12 : τ 0 12 = nI p1) (t13 : τ 0 13 = nI 1) (t14 : τ 0 14 = nI nd1) (t15 : τ 0 15 = nI it1) (t16 : τ 0 16 = nI o1) (t17 : τ 0 17 = nI mo1) (hit : it1 ≤ 24) (ho : o1 ≤ 4) (hmo : mo1 ≤ 4) (hnd : nd1 ≤ 49) : pSt xa rd L N0 M0 W τ p1 o1 it1 nd1 mo1 := by
  have hne := h.ne
  obtain ⟨g1, ⟨ta, f2, f3, f4, f5, f6, ft, h2, h3, hta, h4⟩, g5, g6, g7, g8, g9, g10, g11, g12, g13, g14, g15, g16, g17, g18, g19, g20, g21, g22, g23, g24⟩ := h
  have ht : ta ≠ rd := ne_of h3 g1 (by simp)
  exact ⟨q1, ⟨ta, f2, f3, f4, f5, f6, ft, (oo _ hne.symm).trans h2, (oo _ ht).trans h3, hta, by rw [t8]; exact h4⟩, g5, hp, t9.trans g7, t12, t13, t14, t15, t16, t17, b1, g15, g16, hit, ho, hmo, hnd, by rw [z1]; exact g21, by rw [z1]; exact g22, by rw [z1]; exact g23, by rw [z1]; exact g24⟩
theorem pSt.nums (h : pSt xa rd L N0 M0 w σ p o it nd mo) : L ≤ 80 ∧ p ≤ L ∧ σ 0 9 = nI L ∧ σ 0 13 = nI 1 ∧ σ 0 14 = nI nd ∧ σ 0 15 = nI it ∧ σ 0 16 = nI o ∧ σ 0 17 = nI mo ∧ it ≤ 24 ∧ o ≤ 4 ∧ mo ≤ 4 ∧ nd ≤ 49 := by
  obtain ⟨g1, g2, g5, g6, g7, g8, g9, g10, g11, g12, g13, g14, g15, g16, g17, g18, g19, g20, -⟩ := h
  exact ⟨g5, g6, g7, g9, g10, g11, g12, g13, g17, g18, g19, g20⟩
theorem max_t {a b : Nat} (ha : a < 2 ^ 31) (hb : b < 2 ^ 31) (σ : TS) : t_J6_max (nI a) (nI b) σ = some (nI (max a b), σ) := by
  unfold t_J6_max
  by_cases h : a < b
  · rw [if_pos ((nI_ltI (by omega) (by omega)).mpr h), Nat.max_eq_right (by omega)]
  · rw [if_neg (fun z => h ((nI_ltI (by omega) (by omega)).mp z)), Nat.max_eq_left (by omega)]
/-- both open something -/
theorem open1 (h : pSt xa rd L N0 M0 w σ p o it nd mo) (ho : o < 4) (hp : p < L) : ∃ W W1 σ1, gPut w rd 4 1 (gi (nI o + nI 1)) = some W ∧ f_X4_sign rd W = some (sG σ L p, W) ∧ (∃ f2, W.1 rd = some (.inl (4, gi (nI p) :: f2))) ∧ gPut W rd 4 0 (gi (nI p + nI 1)) = some W1 ∧ (∀ {β : Type} (k : Unit → TS → Option β), (gBd (tPut σ 12 (σ 0 12 + nI 1)) fun w1 => gB2 (t_X2_opens w1) k) = k () σ1) ∧ pSt xa rd L N0 M0 W1 σ1 (p + 1) (o + 1) it nd (max mo (o + 1)) ∧ wF rd w W1 ∧ W1.2 = w.2 ∧ tF σ σ1 ∧ σ1 1 = σ 1 := by
  obtain ⟨n1, n2, n3, n4, n5, n6, n7, n8, n9, n10, n11, n12⟩ := h.nums
  obtain ⟨W, e, q, o1, z, b⟩ := st_put (k := 1) h.1 (by show 1 < 4; omega) h.bd (gi (nI o + nI 1))
  obtain ⟨W1, e1, q1, o2, z1, b1⟩ := st_put (k := 0) q (by show 0 < 4; omega) b (gi (nI p + nI 1))
  have q' : W.1 rd = some (.inl (4, [gi (nI p), gi (nI (o + 1)), gi (nI it), ga (some xa)])) := by
    rw [← nI_add]
    exact q
  have hW : pSt xa rd L N0 M0 W (tPut σ 16 (nI (o + 1))) p (o + 1) it nd mo := h.re q' o1 z b n2 (tPut_r (by omega)) (tPut_ne (by omega)) ((tPut_ne (by omega)).trans h.t12) ((tPut_ne (by omega)).trans n4) ((tPut_ne (by omega)).trans n5) ((tPut_ne (by omega)).trans n6) (tPut_0 _ _ _) ((tPut_ne (by omega)).trans n8) n9 (by omega) n11 n12
  have hmx : max mo (o + 1) ≤ 4 := by omega
  refine ⟨W, W1, tPut (tPut (tPut σ 12 (nI (p + 1))) 16 (nI (o + 1))) 17 (nI (max mo (o + 1))), e, ?_, ⟨_, q⟩, e1, fun k => ?_, h.re (by rw [← nI_add, ← nI_add]; exact q1) (fun c hc => (o2 c hc).trans (o1 c hc)) (z1.trans z) b1 (by omega) ?_ ?_ ?_ ?_ ?_ ?_ ?_ (tPut_0 _ _ _) n9 (by omega) hmx n12, wF.of (fun c hc => (o2 c hc).trans (o1 c hc)) (z1.trans z) b1, z1.trans z, ((tF.rf.put _ (by omega)).put _ (by omega)).put _ (by omega), ?_⟩
  · have := sign_f hW
    rw [this]
    unfold sG
    rw [tPut_r (by omega)]
  · unfold t_X2_opens
    have e16 : tPut σ 12 (nI (p + 1)) 0 16 = nI o := (tPut_ne (by omega)).trans n7
    have e17 : tPut σ 12 (nI (p + 1)) 0 17 = nI mo := (tPut_ne (by omega)).trans n8
    rw [h.t12, nI_add, pu_Bd, pu_Bd, e16, nI_add]
    rw [show tPut (tPut σ 12 (nI (p + 1))) 16 (nI (o + 1)) 0 17 = nI mo from (tPut_ne (by omega)).trans e17, tPut_0, max_t (by omega) (by omega), pu_B2, pu_Bd, pu_B2]
  · rw [tPut_r (by omega), tPut_r (by omega), tPut_r (by omega)]
  · rw [tPut_ne (by omega), tPut_ne (by omega), tPut_ne (by omega)]
  · rw [tPut_ne (by omega), tPut_ne (by omega), tPut_0]
  · rw [tPut_ne (by omega), tPut_ne (by omega), tPut_ne (by omega), n4]
  · rw [tPut_ne (by omega), tPut_ne (by omega), tPut_ne (by omega), n5]
  · rw [tPut_ne (by omega), tPut_ne (by omega), tPut_ne (by omega), n6]
  · rw [tPut_ne (by omega), tPut_0]
  · rw [tPut_r (by omega), tPut_r (by omega), tPut_r (by omega)]
/-- children under a step that leaves them -/
theorem KC.fr {S1 : SV} {r r1 : Nat → Nat → Int32} {w1 : gw} {tp1 : Nat → Nat} {n k e lv : Nat} {chf : Nat → Nat} {kp : Nat → Prop} (h : KC S r w tp N0 n k e chf kp lv) (hS : agr S S1 (n + 1) e) (hr : ∀ m q, n < m → m < e → q < 9 → r1 m q = r m q) (hw : ∀ a x, w.1 a = some x → N0 ≤ a → n < tp a → tp a < e → w1.1 a = some x ∧ tp1 a = tp a) : KC S1 r1 w1 tp1 N0 n k e chf kp lv := by
  obtain ⟨a1, a2, a3⟩ := h
  refine ⟨a1, a2, fun j hj => ?_⟩
  obtain ⟨b1, b2, b3, b4, b5, b6, b7⟩ := a3 j hj
  have bn := b3.2.1
  have hend : (if j + 1 < k then chf (j + 1) else e) ≤ e := by
    by_cases hk1 : j + 1 < k
    · rw [if_pos hk1]
      have := (a3 (j + 1) hk1).2.1
      omega
    · rw [if_neg hk1]
      exact Nat.le_refl _
  have hse := hS (chf j) (by omega) b2
  exact ⟨b1, b2, b3.fr (hS.sub (by omega) hend) (fun m q m1 m2 hq _ => hr m q (by omega) (by omega) hq) (fun a x hx hN t1 t2 => hw a x hx hN (by omega) (by omega)), (hr _ 6 b1 b2 (by omega)).trans b4, (hr _ 8 b1 b2 (by omega)).trans b5, by rw [hse.2.1]; exact b6, hse.2.2.2.2.2.trans b7⟩
/-- the way out of what was opened, behind a sign that can't stand -/
theorem open_fail {w0 : gw} {σ0 : TS} {x : Option (((Nat × Nat) ⊕ Option Nat) × gw)} {tr tr' : Option (Int32 × TS)} (h : pFail L N0 M0 rd w σ x tr) (hw : wF rd w0 w) (ht : tF σ0 σ) (hr : N0 ≤ rd) (ht' : ∀ v, tr = some (nI 0, v) → tr' = some (nI 0, v)) (k : Option Nat → gw → Option (((Nat × Nat) ⊕ Option Nat) × gw)) : pFail L N0 M0 rd w0 σ0 (gB2X x (fun q39 n40 w41 => if n40 = 6 then (gB1 (gPut w41 rd 4 2 (gi (nI 0))) fun w24 => gB1 (some q39) fun a25 => gB1 (gKl w24 a25) fun n26 => gB1 (gI w24 rd 4 1) fun x27 => gB1 (gPut w24 rd 4 1 (gi (x27 - (nI 1)))) fun w28 => gB1 (gKl w28 a25) fun n29 => some (.inl (a25, n29), w28)) else if n40 = 7 then (gB1 (gPut w41 rd 4 2 (gi (nI 0))) fun w24 => gB1 (some q39) fun a25 => gB1 (gKl w24 a25) fun n26 => gB1 (gI w24 rd 4 1) fun x27 => gB1 (gPut w24 rd 4 1 (gi (x27 - (nI 1)))) fun w28 => gB1 (gKl w28 a25) fun n29 => some (.inl (a25, n29), w28)) else none) k) tr' := by
  obtain ⟨ea, c, w1, σ1, p1, gs, h1, h2, h3, h4, h5, h6, h7, h8, h9, h10, h11, h12, f0, f1, f2, f3, h13⟩ := h
  have hc : c = 6 ∨ c = 7 := h9.elim (fun z => Or.inl z.1) (fun z => Or.inr z.1)
  have hne : ea ≠ rd := ne_of h7 h13 (fun z => by
    injection z with z
    injection z with z _
    omega)
  obtain ⟨W1, e1, q1, o1, z1, b1⟩ := st_put (k := 2) h13 (by show 2 < 4; omega) h3.1 (gi (nI 0))
  obtain ⟨W2, e2, q2, o2, z2, b2⟩ := st_put (k := 1) q1 (by show 1 < 4; omega) b1 (gi (f1 - nI 1))
  have k1 : gKl W1 ea = some c := by
    unfold gKl
    rw [o1 ea hne, h7]
  have k2 : gKl W2 ea = some c := by
    unfold gKl
    rw [o2 ea hne, o1 ea hne, h7]
  have hrun : (gB1 (gPut w1 rd 4 2 (gi (nI 0))) fun w24 => gB1 (some ea) fun a25 => gB1 (gKl w24 a25) fun n26 => gB1 (gI w24 rd 4 1) fun x27 => gB1 (gPut w24 rd 4 1 (gi (x27 - (nI 1)))) fun w28 => gB1 (gKl w28 a25) fun n29 => (some (.inl (a25, n29), w28) : Option (((Nat × Nat) ⊕ Option Nat) × gw))) = some (.inl (ea, c), W2) := by
    rw [e1, pu_B1, pu_B1, k1, pu_B1, pu_I (k := 1) q1 rfl, pu_B1, e2, pu_B1, k2, pu_B1]
  refine ⟨ea, c, W2, σ1, p1, gs, ?_, ht' _ h2, hw.tr (h3.tr (wF.of (fun b hb => (o2 b hb).trans (o1 b hb)) (z2.trans z1) b2)), ht.tr h4, h5, h6, (o2 ea hne).trans ((o1 ea hne).trans h7), h8, h9, h10, by rw [z2, z1]; exact h11, by rw [z2, z1]; exact h12, _, _, _, _, q2⟩
  rw [h1, gB2X_l]
  rcases hc with rfl | rfl
  · rw [if_pos rfl]
    exact hrun
  · rw [if_neg (by omega), if_pos rfl]
    exact hrun
end OP
