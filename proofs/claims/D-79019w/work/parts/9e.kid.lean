set_option maxRecDepth 100000
/-! READING: one more child, on both sides -/
section KS
variable {S S2 : SV} {W W9 : gw} {tp tp2 : Nat → Nat} {N0 B n la k e e1 a : Nat} {chf : Nat → Nat} {kp : Nat → Prop} {lv rd : Nat} {r r9 : Nat → Nat → Int32}
theorem LI.fr (h : LI S W tp B n la k chf) (hS : ∀ j, j < k → sSa S2 (chf j) = sSa S (chf j)) (hw : ∀ a x, W.1 a = some x → B ≤ a → tp a = n → W9.1 a = some x ∧ tp2 a = tp a) (hK : W9.2.2.2 = W.2.2.2) (h5 : W9.1 (W9.2.2.2 5) = none) : LI S2 W9 tp2 B n la k chf := by
  obtain ⟨l1, mc, ea, l2, l3⟩ := h
  have y1 := hw _ _ l2 l1.1 l1.2
  refine ⟨⟨l1.1, y1.2.trans l1.2⟩, mc, ea, y1.1, ?_⟩
  rcases l3 with ⟨z1, z2, z3⟩ | ⟨z1, cap, g, z2, z3, z4, z5, z6⟩
  · refine Or.inl ⟨z1, by rw [hK]; exact z2, ?_⟩
    rw [z2, ← hK]
    exact h5
  · have y2 := hw _ _ z5 z1.1 z1.2
    exact Or.inr ⟨⟨z1.1, y2.2.trans z1.2⟩, cap, g, z2, z3, z4, y2.1, fun j hj => by rw [hS j hj]; exact z6 j hj⟩
theorem KC.mem (h : KC S r W tp N0 n k e chf kp lv) {j : Nat} (hj : j < k) : n < chf j ∧ chf j < e ∧ ∃ c fs, W.1 (sSa S (chf j)) = some (.inl (c, fs)) ∧ gAsg 2 c = true := by
  obtain ⟨-, -, h3⟩ := h
  obtain ⟨a1, a2, a3, -⟩ := h3 j hj
  exact ⟨a1, a2, a3.cls⟩
theorem kid_step (hKC : KC S r W tp N0 n k e chf kp lv) (hLI : LI S W tp B n la k chf) (hne : n < e) (hk : k < 24) (hn : n < 64) (hNB : N0 ≤ B) (hB : B ≤ W.2.1) (he : e ≤ 64) (hb : pBd W) (hb9 : pBd W9) (hg : W.2.1 ≤ W9.2.1) (hcell : ∀ a x, W.1 a = some x → a ≠ rd → W9.1 a = some x) (htag : ∀ a, a < W.2.1 → tp2 a = tp a) (htp : 1000 ≤ tp rd) (hK : W9.2.2.2 = W.2.2.2) (h5 : W9.1 (W9.2.2.2 5) = none) (h5' : W9.2.2.2 5 < N0) (hS : agr S S2 (n + 1) e) (hr : ∀ m q, n < m → m < e → q < 9 → ¬ (0 < k ∧ m = chf (k - 1) ∧ q = 6) → r9 m q = r m q) (hl : 0 < k → r9 (chf (k - 1)) 6 = nI e) (hs : sub S2 r9 W9 tp2 N0 e e1) (h6 : r9 e 6 = -1) (h8 : r9 e 8 = nI n) (hkp : kp (sKd S2 e)) (hlv : sLv S2 e = lv) (ha : sSa S2 e = a) (r0 : W9.2.1 + 1 ≤ W9.2.2.2 0) (r1 : W9.2.2.1 + 58 ≤ W9.2.2.2 1) :
    ∃ W10 tp3, f_J2_add la (some a) W9 = some (nI 1, W10) ∧ pBd W10 ∧ W10.2.2.2 = W9.2.2.2 ∧ W9.2.1 ≤ W10.2.1 ∧ W10.2.1 ≤ W9.2.1 + 1 ∧ W10.2.2.1 ≤ W9.2.2.1 + 58 ∧ (∀ b, b < W9.2.1 → tp3 b = tp2 b) ∧ (∀ b x, W9.1 b = some x → ¬ oWn tp2 B n b → W10.1 b = some x) ∧ (∀ b, b < B → W10.1 b = W9.1 b) ∧ (∀ b c fs, W9.1 b = some (.inl (c, fs)) → c ≠ 8 → W10.1 b = some (.inl (c, fs))) ∧ KC S2 r9 W10 tp3 N0 n (k + 1) e1 (fun j => if j = k then e else chf j) kp lv ∧ LI S2 W10 tp3 B n la (k + 1) (fun j => if j = k then e else chf j) := by
  have hold : ∀ a x, W.1 a = some x → tp a < 1000 → W9.1 a = some x ∧ tp2 a = tp a := fun a x hx ht => ⟨hcell a x hx (by rintro rfl; omega), htag a (hb _ _ hx)⟩
  have hKC1 := hKC.ext (S1 := S2) (r1 := r9) (w1 := W9) (tp1 := tp2) (e1 := e1) hne hS hr hl (fun a x hx _ _ t2 => hold a x hx (by omega)) hs h6 h8 hkp hlv
  have hLI9 : LI S2 W9 tp2 B n la k chf := hLI.fr (fun j hj => by
    obtain ⟨m1, m2, -⟩ := hKC.mem hj
    exact (hS (chf j) (by omega) m2).2.2.2.2.1) (fun a x hx _ t => hold a x hx (by omega)) hK h5
  have hmem : ∀ j, j < k + 1 → n < (if j = k then e else chf j) ∧ (if j = k then e else chf j) < e1 ∧ ∃ c fs, W9.1 (sSa S2 (if j = k then e else chf j)) = some (.inl (c, fs)) ∧ gAsg 2 c = true := fun j hj => hKC1.mem hj
  obtain ⟨W10, tp3, y1, y2, y3, y4, y5, y6, y7, y8, y9, y12, y10, y11⟩ := hLI9.add (a := a) (by omega) (by omega) (fun j hj => by
    obtain ⟨-, -, z⟩ := hmem j (by omega)
    rw [if_neg (by omega)] at z
    exact z) (by
    obtain ⟨-, -, z⟩ := hmem k (by omega)
    rw [if_pos rfl, ha] at z
    exact z) hb9 (by omega) r0 r1 (by omega)
  refine ⟨W10, tp3, y1, y2, y3, y4, y5, y6, y7, y8, y9, y12, hKC1.fr agr.rf (fun _ _ _ _ _ => rfl) (fun b x hx _ t1 t2 => ⟨y8 b x hx (fun z => by have := z.2; omega), y7 b (hb9 _ _ hx)⟩), y11 S2 _ (fun j hj => ?_) ?_⟩
  · show sSa S2 (if j = k then e else chf j) = _
    rw [if_neg (by omega)]
  · show sSa S2 (if k = k then e else chf k) = _
    rw [if_pos rfl]
    exact ha
end KS
