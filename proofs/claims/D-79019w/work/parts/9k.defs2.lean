set_option maxRecDepth 100000
/-! DEFINE: versions that stay; the reference's copy -/
theorem pSg.sq {S : SV} {σ σ1 : TS} {v : Nat} (hN : sEn S 0 ≤ 64) (h1 : ∀ j, 576 * v ≤ j → j < 576 * v + 576 → σ1 1 j = σ 1 j) (h3 : ∀ q, q < 4 → σ1 3 (4 * v + q) = σ 3 (4 * v + q)) (h : pSg S σ v) : pSg S σ1 v := by
  obtain ⟨a, b, c⟩ := h
  exact ⟨a, fun n k hn hk => (h1 _ (by omega) (by omega)).trans (b n k hn hk), (h3 0 (by omega)).trans c⟩
theorem vOk.sq {S : SV} {σ σ1 : TS} {w : gw} {tg : pT} {v : Nat} {vo : Option Nat} (h1 : ∀ j, 576 * v ≤ j → j < 576 * v + 576 → σ1 1 j = σ 1 j) (h3 : ∀ q, q < 4 → σ1 3 (4 * v + q) = σ 3 (4 * v + q)) (h : vOk S σ w tg v vo) : vOk S σ1 w tg v vo := by
  obtain ⟨a1, a2, a3, a4, ⟨b1, ⟨d, d1, d2, d3⟩, b3⟩, a, a6, a7, a8⟩ := h
  exact ⟨a1, a2, a3.sq a1.1 h1 h3, a4, ⟨(h3 1 (by omega)).trans b1, ⟨d, d1, (h3 2 (by omega)).trans d2, d3⟩, b3⟩, a, a6, a7, by rw [h3 3 (by omega)]; exact a8⟩
theorem mOk.sq {Ss Ss1 : Nat → SV} {many many1 : Nat → Nat} {σ σ1 : TS} {xa mo T B : Nat} {ias : Nat → Nat} {w : gw} {tg : pT} {s s1 : Nat → Int32} {Tr : Nat → Nat} (hv : ∀ a b, a < 4 → b < many a → b < 4 → b < many1 a ∧ Ss1 (4 * a + b) = Ss (4 * a + b) ∧ (∀ j, 576 * (4 * a + b) ≤ j → j < 576 * (4 * a + b) + 576 → σ1 1 j = σ 1 j) ∧ ∀ q, q < 4 → σ1 3 (4 * (4 * a + b) + q) = σ 3 (4 * (4 * a + b) + q)) (hs : ∀ j, j < 7593 → j < 17 ∨ 21 ≤ j → s1 j = s j) (h : mOk Ss many σ xa mo ias w tg s T B Tr) : mOk Ss1 many1 σ1 xa mo ias w tg s1 T B Tr := by
  obtain ⟨hC, hM, ⟨fi, hfi, hk⟩, hd⟩ := h
  have hF : pFr w w tg tg (fun _ => False) := pFr.rf hC.1
  have hM1 : pMo xa mo w tg s1 T := hM.fr hF hC.1 (fun _ => id) (fun j hj => hs j (by omega) (by omega))
  refine ⟨hC, hM1, ⟨fi, hfi, fun k k6 => ?_⟩, fun i j hi hj hij p1 p2 => hd i j hi hj hij ((hs _ (by omega) (by omega)).symm.trans p1) ((hs _ (by omega) (by omega)).symm.trans p2)⟩
  rcases hk k k6 with z | ⟨z1, z2, z3⟩
  · exact Or.inl ⟨z.1, (hs _ (by omega) (by omega)).trans z.2⟩
  · refine Or.inr ⟨z1, (hs _ (by omega) (by omega)).trans z2, ?_⟩
    obtain ⟨a, b, bo, un, g1, g2, g3, g4, g5, g6, g7, g8⟩ := z3.oth hM1 hF id (fun _ => id) (fun j a b => hs j (by omega) (by omega)) (Nat.le_refl _) (Nat.le_refl _)
    obtain ⟨v1, v2, v3, v4⟩ := hv a b g1 g2 g3
    refine ⟨a, b, bo, un, g1, v1, g3, g4, g5, by rw [v2]; exact g6, ?_, by rw [v2]; exact g8⟩
    rw [v2]
    obtain ⟨⟨a1, a2, a3, a4⟩, a5⟩ := g7
    exact ⟨⟨a1, a2, a3, a4.sq a3.1 v3 v4⟩, a5⟩
theorem tSt_ok {σ : TS} {r j : Nat} (h : j < tLen r) (h2 : tLen r < 2 ^ 31) (x : Int32) : tSt σ r (nI j) x = some (tUpd σ r j x) := t_st h h2 x
theorem tUpd_s (σ : TS) (r j : Nat) (x : Int32) : tUpd σ r j x r j = x := if_pos ⟨rfl, rfl⟩
theorem tUpd_n {σ : TS} {r j r' j' : Nat} {x : Int32} (h : r' ≠ r ∨ j' ≠ j) : tUpd σ r j x r' j' = σ r' j' := if_neg (fun z => h.elim (fun y => y z.1) (fun y => y z.2))
theorem tUpd_r {σ : TS} {r j r' : Nat} {x : Int32} (h : r' ≠ r) : tUpd σ r j x r' = σ r' := by
  funext q
  exact tUpd_n (Or.inl h)
/-- the reference lays a version down -/
theorem def_copy {wf n v : Nat} (L : Int32) {σ : TS} (hv : v < 16) (hwf : wf < 4) : ∃ σ1, gL5 bt_X2_define_1 20000 (nI wf) L (nI n) (nI v) (nI 0) σ = some (nI n, σ1) ∧ (∀ j, j < 576 → σ1 1 (576 * v + j) = σ 1 (9216 + j)) ∧ (∀ j, j < 576 * v ∨ 576 * v + 576 ≤ j → σ1 1 j = σ 1 j) ∧ σ1 3 (4 * v) = σ 0 14 ∧ σ1 3 (4 * v + 1) = σ 0 15 ∧ σ1 3 (4 * v + 2) = σ 0 17 ∧ σ1 3 (4 * v + 3) = L ∧ (∀ j, j < 4 * v ∨ 4 * v + 4 ≤ j → σ1 3 j = σ 3 j) ∧ σ1 5 (17 + wf) = σ 5 (17 + wf) + nI 1 ∧ (∀ j, j ≠ 17 + wf → σ1 5 j = σ 5 j) ∧ ∀ r, r ≠ 1 → r ≠ 3 → r ≠ 5 → σ1 r = σ r := by
  have loop : ∀ r k fuel (τ : TS), k + r = 576 → r < fuel → (∀ j, j < k → τ 1 (576 * v + j) = σ 1 (9216 + j)) → (∀ j, j < 576 * v ∨ 576 * v + 576 ≤ j → τ 1 j = σ 1 j) → (∀ r, r ≠ 1 → τ r = σ r) → ∃ τ1, gL5 bt_X2_define_1 fuel (nI wf) L (nI n) (nI v) (nI k) τ = (gB1 (tSt τ1 3 ((nI 4) * (nI v)) (τ1 0 14)) fun w40' => gB1 (tSt w40' 3 (((nI 4) * (nI v)) + (nI 1)) (w40' 0 15)) fun w40 => gB1 (tSt w40 3 (((nI 4) * (nI v)) + (nI 2)) (w40 0 17)) fun w41 => gB1 (tSt w41 3 (((nI 4) * (nI v)) + (nI 3)) L) fun w42 => gB1 (tLd w42 5 ((nI 17) + (nI wf))) fun x43 => gB1 (tSt w42 5 ((nI 17) + (nI wf)) (x43 + (nI 1))) fun w44 => some (nI n, w44)) ∧ (∀ j, j < 576 → τ1 1 (576 * v + j) = σ 1 (9216 + j)) ∧ (∀ j, j < 576 * v ∨ 576 * v + 576 ≤ j → τ1 1 j = σ 1 j) ∧ ∀ r, r ≠ 1 → τ1 r = σ r := by
    intro r
    induction r with
    | zero =>
      intro k fuel τ hk hf a1 a2 a3
      obtain ⟨fuel, rfl⟩ : ∃ g, fuel = g + 1 := ⟨fuel - 1, by omega⟩
      obtain rfl : k = 576 := by omega
      refine ⟨τ, ?_, a1, a2, a3⟩
      show bt_X2_define_1 (gL5 bt_X2_define_1 fuel) _ _ _ _ _ _ = _
      generalize gL5 bt_X2_define_1 fuel = KK
      unfold bt_X2_define_1
      rw [if_pos (nI_le (Nat.le_refl _) (by omega))]
    | succ r ih =>
      intro k fuel τ hk hf a1 a2 a3
      obtain ⟨fuel, rfl⟩ : ∃ g, fuel = g + 1 := ⟨fuel - 1, by omega⟩
      have hk5 : k < 576 := by omega
      obtain ⟨τ1, i1, i2, i3, i4⟩ := ih (k + 1) fuel (tUpd τ 1 (576 * v + k) (τ 1 (9216 + k))) (by omega) (by omega) (fun j hj => by
        by_cases hjk : j = k
        · rw [hjk, tUpd_s, a2 _ (Or.inr (by omega))]
        · rw [tUpd_n (Or.inr (by omega)), a1 j (by omega)]) (fun j hj => by rw [tUpd_n (Or.inr (by omega)), a2 j hj]) (fun r hr => by rw [tUpd_r hr, a3 r hr])
      refine ⟨τ1, ?_, i2, i3, i4⟩
      rw [← i1]
      show bt_X2_define_1 (gL5 bt_X2_define_1 fuel) _ _ _ _ _ _ = _
      generalize gL5 bt_X2_define_1 fuel = KK
      unfold bt_X2_define_1
      rw [if_neg (nI_ge hk5 (by omega)), pt_part, pu_B2, pt_part, pu_B2, nI_add, nI_add, show ((64 * (16) + 0) * 9 + 0) + k = 9216 + k by omega, t_ld (by show _ < 9792; omega) (by decide), pu_B1, show ((64 * (v) + 0) * 9 + 0) + k = 576 * v + k by omega, t_st (by show _ < 9792; omega) (by decide), pu_B1, pu_Bd, nI_add]
  obtain ⟨τ1, i1, i2, i3, i4⟩ := loop 576 0 20000 σ (by omega) (by omega) (fun j hj => absurd hj (by omega)) (fun _ _ => rfl) (fun _ _ => rfl)
  rw [i1, pu_mul, nI_add, nI_add, nI_add, nI_add, t_st (by show _ < 68; omega) (by decide), pu_B1, t_st (by show _ < 68; omega) (by decide), pu_B1, t_st (by show _ < 68; omega) (by decide), pu_B1, t_st (by show _ < 68; omega) (by decide), pu_B1, t_ld (by show _ < 7593; omega) (by decide), pu_B1, t_st (by show _ < 7593; omega) (by decide), pu_B1]
  have z0 : ∀ j, τ1 0 j = σ 0 j := fun j => by rw [i4 0 (by omega)]
  refine ⟨_, rfl, fun j hj => ?_, fun j hj => ?_, ?_, ?_, ?_, ?_, fun j hj => ?_, ?_, fun j hj => ?_, fun r h1 h3 h5 => ?_⟩
  · rw [tUpd_n (Or.inl (by omega)), tUpd_n (Or.inl (by omega)), tUpd_n (Or.inl (by omega)), tUpd_n (Or.inl (by omega)), tUpd_n (Or.inl (by omega)), i2 j hj]
  · rw [tUpd_n (Or.inl (by omega)), tUpd_n (Or.inl (by omega)), tUpd_n (Or.inl (by omega)), tUpd_n (Or.inl (by omega)), tUpd_n (Or.inl (by omega)), i3 j hj]
  · rw [tUpd_n (Or.inl (by omega)), tUpd_n (Or.inr (by omega)), tUpd_n (Or.inr (by omega)), tUpd_n (Or.inr (by omega)), tUpd_s, z0]
  · rw [tUpd_n (Or.inl (by omega)), tUpd_n (Or.inr (by omega)), tUpd_n (Or.inr (by omega)), tUpd_s, tUpd_n (Or.inl (by omega)), z0]
  · rw [tUpd_n (Or.inl (by omega)), tUpd_n (Or.inr (by omega)), tUpd_s, tUpd_n (Or.inl (by omega)), tUpd_n (Or.inl (by omega)), z0]
  · rw [tUpd_n (Or.inl (by omega)), tUpd_s]
  · rw [tUpd_n (Or.inl (by omega)), tUpd_n (Or.inr (by omega)), tUpd_n (Or.inr (by omega)), tUpd_n (Or.inr (by omega)), tUpd_n (Or.inr (by omega)), i4 3 (by omega)]
  · rw [tUpd_s, tUpd_n (Or.inl (by omega)), tUpd_n (Or.inl (by omega)), tUpd_n (Or.inl (by omega)), tUpd_n (Or.inl (by omega)), i4 5 (by omega)]
  · rw [tUpd_n (Or.inr hj), tUpd_n (Or.inl (by omega)), tUpd_n (Or.inl (by omega)), tUpd_n (Or.inl (by omega)), tUpd_n (Or.inl (by omega)), i4 5 (by omega)]
  · rw [tUpd_r (by omega), tUpd_r (by omega), tUpd_r (by omega), tUpd_r (by omega), tUpd_r (by omega), i4 r h1]
