set_option maxRecDepth 100000
/-! CALLS: count; how many instances there are -/
theorem bit_0 (w : gw) : f_X0_bit (nI 0) w = some (nI 0, w) := by
  unfold f_X0_bit
  rw [if_pos (by decide)]
theorem bit_1 (w : gw) : f_X0_bit (nI 1) w = some (nI 1, w) := by
  unfold f_X0_bit
  rw [if_neg (by decide)]
/-- instances with a status (any below 0); with a workflow too -/
def fM (s : Nat → Int32) (p : Int32) (k : Nat) : Nat := if s (21 + 1262 * (k) + 0) = nI 1 ∧ (p < 0 ∨ s (21 + 1262 * (k) + 1) = p) then 1 else 0
def fW (s : Nat → Int32) (a p : Int32) (k : Nat) : Nat := if s (21 + 1262 * (k) + 0) = nI 1 ∧ s (21 + 1262 * (k) + 2) = a ∧ (p < 0 ∨ s (21 + 1262 * (k) + 1) = p) then 1 else 0
theorem pSum_b {f : Nat → Nat} (h : ∀ k, f k ≤ 1) : ∀ n, pSum f n ≤ n := by
  intro n
  induction n with
  | zero => exact Nat.le_refl _
  | succ n ih =>
    have := h n
    show pSum f n + f n ≤ n + 1
    omega
theorem fM_1 (s : Nat → Int32) (p : Int32) (k : Nat) : fM s p k ≤ 1 := by
  unfold fM
  split <;> omega
theorem fW_1 (s : Nat → Int32) (a p : Int32) (k : Nat) : fW s a p k ≤ 1 := by
  unfold fW
  split <;> omega
section CT
variable {k xa mo : Nat} {w : gw} {tg : pT} {σ : TS} {ias : Nat → Nat} {Ss : Nat → SV} {many : Nat → Nat} {T : Nat} {fv : Nat → Option Nat} {fm : Nat → Int32} {wr im : Option Nat}
theorem many_f (h : GRp k xa mo ias Ss many T fv fm wr im w tg σ) (p : Int32) : f_X1_many mo p w = some (nI (pSum (fM (σ 5) p) 6), w) := by
  obtain ⟨ta, va, vm, pp, du, fa, ins, fd, ff, fi, c1, c2, c3, c4, c5, c6, c7, c8, c9, c10, c11, c12, c13, c14, -⟩ := h.rd
  rw [f_X1_many_eq]
  have : ∀ r j fuel, j + r = 6 → r < fuel → gL3 (bf_X1_many_1 mo) fuel p (nI (pSum (fM (σ 5) p) j)) (nI j) w = some (nI (pSum (fM (σ 5) p) 6), w) := by
    intro r
    induction r with
    | zero =>
      intro j fuel hj hf
      obtain ⟨fuel, rfl⟩ : ∃ g, fuel = g + 1 := ⟨fuel - 1, by omega⟩
      obtain rfl : j = 6 := by omega
      show bf_X1_many_1 mo (gL3 (bf_X1_many_1 mo) fuel) _ _ _ _ = _
      generalize gL3 (bf_X1_many_1 mo) fuel = KK
      unfold bf_X1_many_1
      rw [if_pos (nI_le (Nat.le_refl _) (by omega))]
    | succ r ih =>
      intro j fuel hj hf
      obtain ⟨fuel, rfl⟩ : ∃ g, fuel = g + 1 := ⟨fuel - 1, by omega⟩
      have ihj := ih (j + 1) fuel (by omega) (by omega)
      have hs : pSum (fM (σ 5) p) (j + 1) = pSum (fM (σ 5) p) j + fM (σ 5) p j := rfl
      rw [hs] at ihj
      show bf_X1_many_1 mo (gL3 (bf_X1_many_1 mo) fuel) _ _ _ _ = _
      generalize gL3 (bf_X1_many_1 mo) fuel = KK at ihj ⊢
      have j6 : j < 6 := by omega
      have d1 : ¬ (nI 0 : Int32) = nI 1 := by decide
      unfold bf_X1_many_1
      rw [if_neg (nI_ge j6 (by omega)), pu_R (k := 2) c2 rfl, pu_B1, pu_B1, pu_LdR c3 j6 (by omega), pu_B1, pu_Bd, pu_Bd]
      rcases c14 j j6 with ⟨z1, z2⟩ | ⟨z1, z2⟩
      · have hf0 : fM (σ 5) p j = 0 := by
          unfold fM
          rw [if_neg (fun z => by rw [z2] at z; exact d1 z.1)]
        rw [hf0] at ihj
        rw [z1, pu_Nn]
        try dsimp only
        rw [bit_0, pu_B2, pu_Bd, pu_Bd, nI_add, nI_add]
        exact ihj
      · have hinst := GRp.inst h j6 z2
        obtain ⟨ia, va2, pe2, dl2, hi2, bo, un, fv2, fp2, fh2, E, ea, mc, d1', rfl, -⟩ := hinst
        rw [z1, pu_Ns, pu_Bd]
        by_cases hp : p < 0
        · have hf1 : fM (σ 5) p j = 1 := by
            unfold fM
            rw [if_pos ⟨z2, Or.inl hp⟩]
          rw [hf1] at ihj
          rw [if_pos hp]
          try dsimp only
          rw [bit_1, pu_B2, pu_Bd, pu_Bd, nI_add, nI_add]
          exact ihj
        · rw [if_neg hp, pu_B1, pu_B1, pu_LdR c3 j6 (by omega), pu_B1, z1, pu_B1, pu_I (k := 9) d1' rfl, pu_B1]
          by_cases hq : σ 5 (21 + 1262 * (j) + 1) = p
          · have hf1 : fM (σ 5) p j = 1 := by
              unfold fM
              rw [if_pos ⟨z2, Or.inr hq⟩]
            rw [hf1] at ihj
            rw [if_pos hq]
            try dsimp only
            rw [bit_1, pu_B2, pu_Bd, pu_Bd, nI_add, nI_add]
            exact ihj
          · have hf0 : fM (σ 5) p j = 0 := by
              unfold fM
              rw [if_neg (fun z => z.2.elim hp hq)]
            rw [hf0] at ihj
            rw [if_neg hq]
            try dsimp only
            rw [bit_0, pu_B2, pu_Bd, pu_Bd, nI_add, nI_add]
            exact ihj
  exact this 6 0 20000 (by omega) (by omega)
theorem inst_t (h : ∀ j, j < 6 → σ 5 (21 + 1262 * (j) + 0) = nI 0 ∨ σ 5 (21 + 1262 * (j) + 0) = nI 1) : t_X2_instances σ = some (nI (pSum (fM (σ 5) (-1)) 6), σ) := by
  rw [t_X2_instances_eq]
  have : ∀ r j fuel, j + r = 6 → r < fuel → gL2 bt_X2_instances_1 fuel (nI (pSum (fM (σ 5) (-1)) j)) (nI j) σ = some (nI (pSum (fM (σ 5) (-1)) 6), σ) := by
    intro r
    induction r with
    | zero =>
      intro j fuel hj hf
      obtain ⟨fuel, rfl⟩ : ∃ g, fuel = g + 1 := ⟨fuel - 1, by omega⟩
      obtain rfl : j = 6 := by omega
      show bt_X2_instances_1 (gL2 bt_X2_instances_1 fuel) _ _ _ = _
      generalize gL2 bt_X2_instances_1 fuel = KK
      unfold bt_X2_instances_1
      rw [if_pos (nI_le (Nat.le_refl _) (by omega))]
    | succ r ih =>
      intro j fuel hj hf
      obtain ⟨fuel, rfl⟩ : ∃ g, fuel = g + 1 := ⟨fuel - 1, by omega⟩
      have ihj := ih (j + 1) fuel (by omega) (by omega)
      have hs : pSum (fM (σ 5) (-1)) (j + 1) = pSum (fM (σ 5) (-1)) j + fM (σ 5) (-1) j := rfl
      rw [hs] at ihj
      show bt_X2_instances_1 (gL2 bt_X2_instances_1 fuel) _ _ _ = _
      generalize gL2 bt_X2_instances_1 fuel = KK at ihj ⊢
      have j6 : j < 6 := by omega
      have e0 : ∀ w : TS, t_X2_of (nI j) (nI 0) w = _ := fun w => pt_of w
      unfold bt_X2_instances_1
      rw [if_neg (nI_ge j6 (by omega)), e0, pu_B2, ld5 (by omega), pu_B1, pu_Bd, pu_Bd, nI_add]
      rcases h j j6 with z | z
      · have hf0 : fM (σ 5) (-1) j = 0 := by
          unfold fM
          rw [if_neg (fun y => by rw [z] at y; exact absurd y.1 (by decide))]
        rw [hf0] at ihj
        rw [z, nI_add]
        exact ihj
      · have hf1 : fM (σ 5) (-1) j = 1 := by
          unfold fM
          rw [if_pos ⟨z, Or.inl (by decide)⟩]
        rw [hf1] at ihj
        rw [z, nI_add]
        exact ihj
  exact this 6 0 20000 (by omega) (by omega)
theorem GRp.there (h : GRp k xa mo ias Ss many T fv fm wr im w tg σ) : ∀ j, j < 6 → σ 5 (21 + 1262 * (j) + 0) = nI 0 ∨ σ 5 (21 + 1262 * (j) + 0) = nI 1 := fun j hj => by
  obtain ⟨ta, va, vm, pp, du, fa, ins, fd, ff, fi, c1, c2, c3, c4, c5, c6, c7, c8, c9, c10, c11, c12, c13, c14, -⟩ := h.rd
  rcases c14 j hj with z | z
  · exact Or.inl z.2
  · exact Or.inr z.2
theorem of_t (h : GRp (k + 1) xa mo ias Ss many T fv fm wr im w tg σ) (a p : Int32) : t_X2_instancesOf a p σ = some (nI (pSum (fW (σ 5) a p) 6), σ) := by
  rw [t_X2_instancesOf_eq]
  have : ∀ r j fuel, j + r = 6 → r < fuel → gL4 bt_X2_instancesOf_1 fuel a p (nI (pSum (fW (σ 5) a p) j)) (nI j) σ = some (nI (pSum (fW (σ 5) a p) 6), σ) := by
    intro r
    induction r with
    | zero =>
      intro j fuel hj hf
      obtain ⟨fuel, rfl⟩ : ∃ g, fuel = g + 1 := ⟨fuel - 1, by omega⟩
      obtain rfl : j = 6 := by omega
      show bt_X2_instancesOf_1 (gL4 bt_X2_instancesOf_1 fuel) _ _ _ _ _ = _
      generalize gL4 bt_X2_instancesOf_1 fuel = KK
      unfold bt_X2_instancesOf_1
      rw [if_pos (nI_le (Nat.le_refl _) (by omega))]
    | succ r ih =>
      intro j fuel hj hf
      obtain ⟨fuel, rfl⟩ : ∃ g, fuel = g + 1 := ⟨fuel - 1, by omega⟩
      have ihj := ih (j + 1) fuel (by omega) (by omega)
      have hs : pSum (fW (σ 5) a p) (j + 1) = pSum (fW (σ 5) a p) j + fW (σ 5) a p j := rfl
      rw [hs] at ihj
      show bt_X2_instancesOf_1 (gL4 bt_X2_instancesOf_1 fuel) _ _ _ _ _ = _
      generalize gL4 bt_X2_instancesOf_1 fuel = KK at ihj ⊢
      have j6 : j < 6 := by omega
      have e1 : ∀ w : TS, t_X2_of (nI j) (nI 1) w = _ := fun w => pt_of w
      have e2 : ∀ w : TS, t_X2_of (nI j) (nI 2) w = _ := fun w => pt_of w
      have hz : (nI 0 : Int32) = 0 := by decide
      have hz1 : ¬ (nI 1 : Int32) = 0 := by decide
      have fin0 : fW (σ 5) a p j = 0 → KK a p (nI (pSum (fW (σ 5) a p) j) + nI 0) (nI j + nI 1) σ = some (nI (pSum (fW (σ 5) a p) 6), σ) := fun hf0 => by
        rw [nI_add, nI_add]
        rw [hf0] at ihj
        exact ihj
      have fin1 : fW (σ 5) a p j = 1 → KK a p (nI (pSum (fW (σ 5) a p) j) + nI 1) (nI j + nI 1) σ = some (nI (pSum (fW (σ 5) a p) 6), σ) := fun hf0 => by
        rw [nI_add, nI_add]
        rw [hf0] at ihj
        exact ihj
      unfold bt_X2_instancesOf_1
      rw [if_neg (nI_ge j6 (by omega))]
      rcases h.isI (nI j) with ⟨-, i2⟩ | ⟨j', hj', hjj, hp, -, i2⟩
      · have hno : ¬ σ 5 (21 + 1262 * (j) + 0) = nI 1 := fun z => by
          rcases h.isI (nI j) with ⟨i1, -⟩ | ⟨j', hj', hjj, hp, -, i3⟩
          · obtain ⟨ta, va, vm, pp, du, fa, ins, fd, ff, fi, c1, c2, c3, c4, c5, c6, c7, c8, c9, c10, c11, c12, c13, c14, -⟩ := h.rd
            have hfi : fi j = some (ias j) := by
              rcases c14 j j6 with y | y
              · rw [z] at y; exact absurd y.2 (by decide)
              · exact y.1
            unfold f_X0_isInstance at i1
            rw [pf_in, if_pos (rng' (k := j) (M := 5) (by omega) (by omega)), pu_B2, pu_Bd, if_neg hz1, pu_R (k := 5) c1 rfl, pu_B1, pu_B1, pu_R (k := 2) c2 rfl, pu_B1, pu_B1, pu_LdR c3 j6 (by omega), pu_B1, hfi, pu_Ns] at i1
            injection i1 with i1
            injection i1 with i1
            exact absurd i1 (by decide)
          · rw [i2] at i3
            injection i3 with i3
            injection i3 with i3
            exact absurd i3 (by decide)
        rw [i2, pu_B2, pu_Bd, pu_Bd, if_pos hz]
        try dsimp only
        rw [pu_Bd, pu_Bd]
        exact fin0 (by unfold fW; rw [if_neg (fun z => hno z.1)])
      · obtain rfl : j = j' := (nI_eq (by omega) (by omega)).mp hjj
        rw [i2, pu_B2, pu_Bd, pu_Bd, if_neg hz1, e2, pu_B2, ld5 (by omega), pu_B1]
        by_cases ha : σ 5 (21 + 1262 * (j) + 2) = a
        · rw [if_pos ha, pu_Bd]
          by_cases hp0 : p < 0
          · rw [if_pos hp0]
            try dsimp only
            rw [pu_Bd, pu_Bd]
            exact fin1 (by unfold fW; rw [if_pos ⟨hp, ha, Or.inl hp0⟩])
          · rw [if_neg hp0, e1, pu_B2, ld5 (by omega), pu_B1]
            by_cases hq : σ 5 (21 + 1262 * (j) + 1) = p
            · rw [if_pos hq]
              try dsimp only
              rw [pu_Bd, pu_Bd]
              exact fin1 (by unfold fW; rw [if_pos ⟨hp, ha, Or.inr hq⟩])
            · rw [if_neg hq]
              try dsimp only
              rw [pu_Bd, pu_Bd]
              exact fin0 (by unfold fW; rw [if_neg (fun z => z.2.2.elim hp0 hq)])
        · rw [if_neg ha]
          try dsimp only
          rw [pu_Bd, pu_Bd]
          exact fin0 (by unfold fW; rw [if_neg (fun z => ha z.2.1)])
  exact this 6 0 20000 (by omega) (by omega)
/-- all workflows together -/
theorem status_t (h : GRp (k + 1) xa mo ias Ss many T fv fm wr im w tg σ) (p : Int32) : t_X2_withStatus p σ = some (nI (pSum (fM (σ 5) p) 6), σ) := by
  have hsum : pSum (fM (σ 5) p) 6 = pSum (fun a => pSum (fW (σ 5) (nI a) p) 6) 4 := by
    have hk : ∀ k, k < 6 → fM (σ 5) p k = fW (σ 5) (nI 0) p k + fW (σ 5) (nI 1) p k + fW (σ 5) (nI 2) p k + fW (σ 5) (nI 3) p k := by
      intro k hk
      unfold fM fW
      by_cases z : σ 5 (21 + 1262 * (k) + 0) = nI 1
      · obtain ⟨a, b, bo, un, h1, h2, h3, h4, -⟩ := h.2.2.2.1.get hk z
        rw [h4]
        have ha : a = 0 ∨ a = 1 ∨ a = 2 ∨ a = 3 := by omega
        have d : ∀ x y : Nat, x < 4 → y < 4 → x ≠ y → ¬ (nI x : Int32) = nI y := fun x y hx hy hxy q => hxy ((nI_eq (by omega) (by omega)).mp q)
        rcases ha with rfl | rfl | rfl | rfl
        · simp only [z, true_and, d 0 1 (by omega) (by omega) (by omega), d 0 2 (by omega) (by omega) (by omega), d 0 3 (by omega) (by omega) (by omega), false_and, if_false]
          split <;> rfl
        · simp only [z, true_and, d 1 0 (by omega) (by omega) (by omega), d 1 2 (by omega) (by omega) (by omega), d 1 3 (by omega) (by omega) (by omega), false_and, if_false]
          split <;> rfl
        · simp only [z, true_and, d 2 0 (by omega) (by omega) (by omega), d 2 1 (by omega) (by omega) (by omega), d 2 3 (by omega) (by omega) (by omega), false_and, if_false]
          split <;> rfl
        · simp only [z, true_and, d 3 0 (by omega) (by omega) (by omega), d 3 1 (by omega) (by omega) (by omega), d 3 2 (by omega) (by omega) (by omega), false_and, if_false]
          split <;> rfl
      · simp only [z, false_and, if_false]
    have hgen : ∀ n, n ≤ 6 → pSum (fM (σ 5) p) n = pSum (fun a => pSum (fW (σ 5) (nI a) p) n) 4 := by
      intro n
      induction n with
      | zero => intro _; rfl
      | succ n ih =>
        intro hn
        have e1 : pSum (fM (σ 5) p) (n + 1) = pSum (fM (σ 5) p) n + fM (σ 5) p n := rfl
        have e2 : pSum (fun a => pSum (fW (σ 5) (nI a) p) (n + 1)) 4 = 0 + (pSum (fW (σ 5) (nI 0) p) n + fW (σ 5) (nI 0) p n) + (pSum (fW (σ 5) (nI 1) p) n + fW (σ 5) (nI 1) p n) + (pSum (fW (σ 5) (nI 2) p) n + fW (σ 5) (nI 2) p n) + (pSum (fW (σ 5) (nI 3) p) n + fW (σ 5) (nI 3) p n) := rfl
        have e3 : pSum (fun a => pSum (fW (σ 5) (nI a) p) n) 4 = 0 + pSum (fW (σ 5) (nI 0) p) n + pSum (fW (σ 5) (nI 1) p) n + pSum (fW (σ 5) (nI 2) p) n + pSum (fW (σ 5) (nI 3) p) n := rfl
        have := ih (by omega)
        have := hk n (by omega)
        omega
    exact hgen 6 (Nat.le_refl _)
  rw [hsum, t_X2_withStatus_eq]
  have : ∀ r j fuel, j + r = 4 → r < fuel → gL3 bt_X2_withStatus_1 fuel p (nI (pSum (fun a => pSum (fW (σ 5) (nI a) p) 6) j)) (nI j) σ = some (nI (pSum (fun a => pSum (fW (σ 5) (nI a) p) 6) 4), σ) := by
    intro r
    induction r with
    | zero =>
      intro j fuel hj hf
      obtain ⟨fuel, rfl⟩ : ∃ g, fuel = g + 1 := ⟨fuel - 1, by omega⟩
      obtain rfl : j = 4 := by omega
      show bt_X2_withStatus_1 (gL3 bt_X2_withStatus_1 fuel) _ _ _ _ = _
      generalize gL3 bt_X2_withStatus_1 fuel = KK
      unfold bt_X2_withStatus_1
      rw [if_pos (nI_le (Nat.le_refl _) (by omega))]
    | succ r ih =>
      intro j fuel hj hf
      obtain ⟨fuel, rfl⟩ : ∃ g, fuel = g + 1 := ⟨fuel - 1, by omega⟩
      have ihj := ih (j + 1) fuel (by omega) (by omega)
      have hs : pSum (fun a => pSum (fW (σ 5) (nI a) p) 6) (j + 1) = pSum (fun a => pSum (fW (σ 5) (nI a) p) 6) j + pSum (fW (σ 5) (nI j) p) 6 := rfl
      rw [hs] at ihj
      show bt_X2_withStatus_1 (gL3 bt_X2_withStatus_1 fuel) _ _ _ _ = _
      generalize gL3 bt_X2_withStatus_1 fuel = KK at ihj ⊢
      unfold bt_X2_withStatus_1
      rw [if_neg (nI_ge (by omega) (by omega)), of_t h, pu_B2, pu_Bd, pu_Bd, nI_add, nI_add]
      exact ihj
  exact this 4 0 20000 (by omega) (by omega)
theorem versions_t (h : GRp (k + 1) xa mo ias Ss many T fv fm wr im w tg σ) : t_X2_versions σ = some (nI (pSum many 4), σ) := by
  rw [t_X2_versions_eq]
  have : ∀ r j fuel, j + r = 4 → r < fuel → gL2 bt_X2_versions_1 fuel (nI (pSum many j)) (nI j) σ = some (nI (pSum many 4), σ) := by
    intro r
    induction r with
    | zero =>
      intro j fuel hj hf
      obtain ⟨fuel, rfl⟩ : ∃ g, fuel = g + 1 := ⟨fuel - 1, by omega⟩
      obtain rfl : j = 4 := by omega
      show bt_X2_versions_1 (gL2 bt_X2_versions_1 fuel) _ _ _ = _
      generalize gL2 bt_X2_versions_1 fuel = KK
      unfold bt_X2_versions_1
      rw [if_pos (nI_le (Nat.le_refl _) (by omega))]
    | succ r ih =>
      intro j fuel hj hf
      obtain ⟨fuel, rfl⟩ : ∃ g, fuel = g + 1 := ⟨fuel - 1, by omega⟩
      have ihj := ih (j + 1) fuel (by omega) (by omega)
      have hs : pSum many (j + 1) = pSum many j + many j := rfl
      rw [hs] at ihj
      show bt_X2_versions_1 (gL2 bt_X2_versions_1 fuel) _ _ _ = _
      generalize gL2 bt_X2_versions_1 fuel = KK at ihj ⊢
      have hm := (h.2.2.1 j (by omega)).2.2.1
      unfold bt_X2_versions_1
      rw [if_neg (nI_ge (by omega) (by omega)), nI_add, ld5 (by omega), pu_B1, hm, pu_Bd, pu_Bd, nI_add, nI_add]
      exact ihj
  exact this 4 0 20000 (by omega) (by omega)
theorem versions_f (h : GRp (k + 1) xa mo ias Ss many T fv fm wr im w tg σ) : f_X0_allVersions xa w = some (nI (pSum many 4), w) := by
  obtain ⟨ta, va, vm, pp, du, fa, ins, fd, ff, fi, c1, c2, c3, c4, c5, c6, c7, c8, c9, c10, c11, -⟩ := h.rd
  rw [f_X0_allVersions_eq, pu_R (k := 4) c1 rfl, pu_B1, pu_B1, pu_Len c11, pu_B1]
  have : ∀ r j fuel, j + r = 4 → r < fuel → gL4 bf_X0_allVersions_1 fuel (nI (pSum many j)) (some vm) (nI 4) (nI j) w = some (nI (pSum many 4), w) := by
    intro r
    induction r with
    | zero =>
      intro j fuel hj hf
      obtain ⟨fuel, rfl⟩ : ∃ g, fuel = g + 1 := ⟨fuel - 1, by omega⟩
      obtain rfl : j = 4 := by omega
      show bf_X0_allVersions_1 (gL4 bf_X0_allVersions_1 fuel) _ _ _ _ _ = _
      generalize gL4 bf_X0_allVersions_1 fuel = KK
      unfold bf_X0_allVersions_1
      rw [if_pos (nI_le (Nat.le_refl _) (by omega))]
    | succ r ih =>
      intro j fuel hj hf
      obtain ⟨fuel, rfl⟩ : ∃ g, fuel = g + 1 := ⟨fuel - 1, by omega⟩
      have ihj := ih (j + 1) fuel (by omega) (by omega)
      have hs : pSum many (j + 1) = pSum many j + many j := rfl
      rw [hs] at ihj
      show bf_X0_allVersions_1 (gL4 bf_X0_allVersions_1 fuel) _ _ _ _ _ = _
      generalize gL4 bf_X0_allVersions_1 fuel = KK at ihj ⊢
      have hm := (h.2.2.1 j (by omega)).2.1
      unfold bf_X0_allVersions_1
      rw [if_neg (nI_ge (by omega) (by omega)), pu_B1, pu_LdI c11 (by omega) (by omega), pu_B1, hm, pu_Bd, pu_Bd, nI_add, nI_add]
      exact ihj
  exact this 4 0 20000 (by omega) (by omega)
theorem call_count (p1 : Int32) (h : GRw (k + 1) xa w tg σ) : callOk k xa w tg σ (f_X0_count xa p1 w) (t_X2_count p1 σ) := by
  obtain ⟨mo, ias, Ss, many, T, fv, fm, wr, im, h⟩ := h
  obtain ⟨ta, va, vm, pp, du, fa, ins, fd, ff, fi, c1, c2, c3, c4, c5, c6, c7, c8, c9, c10, c11, c12, c13, c14, c15, c16, c17⟩ := h.rd
  have hz : (nI 0 : Int32) = 0 := by decide
  have hz1 : ¬ (nI 1 : Int32) = 0 := by decide
  unfold f_X0_count t_X2_count
  rw [pf_in, pt_isIn, pu_B2, pu_B2]
  by_cases hr : nI 10 ≤ p1 ∧ p1 ≤ nI 17
  · rw [if_pos hr, if_neg hz1, if_neg hz1]
    obtain ⟨c, hc, rfl⟩ := rng (M := 17) (by omega) ⟨Int32.le_trans (by decide) hr.1, hr.2⟩
    have hc10 : 10 ≤ c := (nI_leI (by omega) (by omega)).mp hr.1
    rw [pu_R (k := 5) c1 rfl, pu_B1, pu_B1, pu_R (k := 0) c2 rfl, pu_B1, pu_B1, pk_sub hc10, pu_LdI c4 (by omega) (by omega), pu_B1, nI_add, pk_sub (by omega), ld5 (by omega), pu_B1, (c12 (c - 10) (by omega)).1, show 1 + c - 10 = 1 + (c - 10) by omega]
    exact h.same _
  · rw [if_neg hr, if_pos hz, if_pos hz, pf_in, pt_isIn, pu_B2, pu_B2]
    by_cases hr2 : nI 20 ≤ p1 ∧ p1 ≤ nI 27
    · rw [if_pos hr2, if_neg hz1, if_neg hz1]
      obtain ⟨c, hc, rfl⟩ := rng (M := 27) (by omega) ⟨Int32.le_trans (by decide) hr2.1, hr2.2⟩
      have hc10 : 20 ≤ c := (nI_leI (by omega) (by omega)).mp hr2.1
      rw [pu_R (k := 5) c1 rfl, pu_B1, pu_B1, pu_R (k := 1) c2 rfl, pu_B1, pu_B1, pk_sub hc10, pu_LdI c5 (by omega) (by omega), pu_B1, nI_add, pk_sub (by omega), ld5 (by omega), pu_B1, (c12 (c - 20) (by omega)).2.1, show 9 + c - 20 = 9 + (c - 20) by omega]
      exact h.same _
    · rw [if_neg hr2, if_pos hz, if_pos hz]
      by_cases q0 : p1 = nI 0
      · rw [if_pos q0, if_pos q0, pu_R (k := 5) c1 rfl, pu_B1, pu_B1, pu_I (k := 3) c2 rfl, pu_B1, ld5 (by omega), pu_B1, c13]
        exact h.same _
      · rw [if_neg q0, if_neg q0]
        by_cases q1 : p1 = nI 1
        · rw [if_pos q1, if_pos q1, pu_R (k := 5) c1 rfl, pu_B1, pu_B1, pu_Ob c2, pu_B1, many_f h, pu_B2, inst_t h.there, pu_B2]
          exact h.same _
        · rw [if_neg q1, if_neg q1]
          by_cases q2 : p1 = nI 2
          · rw [if_pos q2, if_pos q2, pu_R (k := 5) c1 rfl, pu_B1, pu_B1, pu_Ob c2, pu_B1, many_f h, pu_B2, status_t h, pu_B2]
            exact h.same _
          · rw [if_neg q2, if_neg q2]
            by_cases q3 : p1 = nI 3
            · rw [if_pos q3, if_pos q3, pu_R (k := 5) c1 rfl, pu_B1, pu_B1, pu_Ob c2, pu_B1, many_f h, pu_B2, status_t h, pu_B2]
              exact h.same _
            · rw [if_neg q3, if_neg q3]
              by_cases q4 : p1 = nI 4
              · rw [if_pos q4, if_pos q4, pu_I (k := 1) c1 rfl, pu_B1, c16]
                exact h.same _
              · rw [if_neg q4, if_neg q4]
                by_cases q5 : p1 = nI 5
                · rw [if_pos q5, if_pos q5, pu_Ob c1, pu_B1, versions_f h, pu_B2, versions_t h, pu_B2]
                  exact h.same _
                · rw [if_neg q5, if_neg q5]
                  exact h.same _
end CT
