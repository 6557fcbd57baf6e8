set_option maxRecDepth 100000
/-! READING: the bodies or items below a node, as they come -/
/-- the first k children of n: chf; they end at e -/
def KC (S : SV) (r : Nat → Nat → Int32) (w : gw) (tp : Nat → Nat) (N0 n k e : Nat) (chf : Nat → Nat) (kp : Nat → Prop) (lv : Nat) : Prop := (k = 0 → e = n + 1) ∧ (0 < k → chf 0 = n + 1) ∧ ∀ j, j < k → n < chf j ∧ chf j < e ∧ sub S r w tp N0 (chf j) (if j + 1 < k then chf (j + 1) else e) ∧ r (chf j) 6 = (if j + 1 < k then nI (chf (j + 1)) else -1) ∧ r (chf j) 8 = nI n ∧ kp (sKd S (chf j)) ∧ sLv S (chf j) = lv
/-- the component's list of them -/
def LI (S : SV) (w : gw) (tp : Nat → Nat) (N0 n la k : Nat) (chf : Nat → Nat) : Prop := oWn tp N0 n la ∧ ∃ mc ea, w.1 la = some (.inl (8, [gi mc, ga (some ea), gi (nI k)])) ∧ ((k = 0 ∧ ea = w.2.2.2 5 ∧ w.1 ea = none) ∨ (oWn tp N0 n ea ∧ ∃ cap g, k ≤ cap ∧ 1 ≤ cap ∧ cap ≤ 100 ∧ w.1 ea = some (.inr (2, cap, .inr g)) ∧ ∀ j, j < k → g j = some (sSa S (chf j))))
section KI
variable {S S1 : SV} {r r1 : Nat → Nat → Int32} {w w1 : gw} {tp tp1 : Nat → Nat} {N0 n e k : Nat} {chf : Nat → Nat} {kp : Nat → Prop} {lv : Nat}
/-- one more child -/
theorem KC.ext {e1 : Nat} (h : KC S r w tp N0 n k e chf kp lv) (hne : n < e) (hS : agr S S1 (n + 1) e) (hr : ∀ m q, n < m → m < e → q < 9 → ¬ (0 < k ∧ m = chf (k - 1) ∧ q = 6) → r1 m q = r m q) (hl : 0 < k → r1 (chf (k - 1)) 6 = nI e) (hw : ∀ a x, w.1 a = some x → N0 ≤ a → n < tp a → tp a < e → w1.1 a = some x ∧ tp1 a = tp a) (hs : sub S1 r1 w1 tp1 N0 e e1) (h6 : r1 e 6 = -1) (h8 : r1 e 8 = nI n) (hk : kp (sKd S1 e)) (hlv : sLv S1 e = lv) : KC S1 r1 w1 tp1 N0 n (k + 1) e1 (fun j => if j = k then e else chf j) kp lv := by
  obtain ⟨a1, a2, a3⟩ := h
  have he1 := hs.2.1
  refine ⟨fun z => absurd z (by omega), fun _ => ?_, fun j hj => ?_⟩
  · show (if 0 = k then e else chf 0) = n + 1
    by_cases hk0 : 0 = k
    · rw [if_pos hk0]
      exact a1 hk0.symm
    · rw [if_neg hk0]
      exact a2 (by omega)
  · show n < (if j = k then e else chf j) ∧ _
    by_cases hjk : j = k
    · have e2 : (fun j => if j = k then e else chf j) j = e := if_pos hjk
      simp only [if_pos hjk, if_neg (show ¬ j + 1 < k + 1 by omega)]
      exact ⟨hne, he1, hs, h6, h8, hk, hlv⟩
    · have hj' : j < k := by omega
      obtain ⟨b1, b2, b3, b4, b5, b6, b7⟩ := a3 j hj'
      have bn := b3.2.1
      have hend : (if j + 1 < k then chf (j + 1) else e) ≤ e := by
        by_cases hk1 : j + 1 < k
        · rw [if_pos hk1]
          have := (a3 (j + 1) hk1).2.1
          omega
        · rw [if_neg hk1]
          exact Nat.le_refl _
      have hnx : (if j + 1 < k + 1 then (if j + 1 = k then e else chf (j + 1)) else e1) = (if j + 1 < k then chf (j + 1) else e) := by
        rw [if_pos (by omega)]
        by_cases hk1 : j + 1 = k
        · rw [if_pos hk1, if_neg (by omega)]
        · rw [if_neg hk1, if_pos (by omega)]
      have hinj : ∀ i i', i < i' → i' < k → chf i < chf i' := by
        intro i i' hi hi'
        induction i' with
        | zero => omega
        | succ i' ih =>
          have s1 := (a3 i' (by omega)).2.2.1.2.1
          rw [if_pos (by omega)] at s1
          by_cases hii : i = i'
          · rw [hii]; exact s1
          · have := ih (by omega) (by omega)
            omega
      have hin : ∀ m, chf j ≤ m → m < (if j + 1 < k then chf (j + 1) else e) → m ≠ chf j → ¬ (0 < k ∧ m = chf (k - 1)) := fun m m1 m2 m3 z => by
        obtain ⟨z1, z2⟩ := z
        by_cases hk1 : j + 1 < k
        · rw [if_pos hk1] at m2
          by_cases hk2 : j + 1 = k - 1
          · rw [hk2] at m2
            omega
          · have := hinj (j + 1) (k - 1) (by omega) (by omega)
            omega
        · have : j = k - 1 := by omega
          rw [this] at m3
          exact m3 z2
      simp only [if_neg hjk]
      have hsub : sub S1 r1 w1 tp1 N0 (chf j) (if j + 1 < k then chf (j + 1) else e) := b3.fr (hS.sub (by omega) hend) (fun m q m1 m2 hq hd => hr m q (by omega) (by omega) hq (fun z => by
        by_cases hm : m = chf j
        · omega
        · exact hin m m1 m2 hm ⟨z.1, z.2.1⟩)) (fun a x hx hN t1 t2 => hw a x hx hN (by omega) (by omega))
      have hse := hS (chf j) (by omega) b2
      refine ⟨b1, by omega, by rw [hnx]; exact hsub, ?_, ?_, by rw [hse.2.1]; exact b6, hse.2.2.2.2.2.trans b7⟩
      · by_cases hk1 : j + 1 < k
        · rw [hr _ 6 b1 b2 (by omega) (fun z => by
            have := hinj j (k - 1) (by omega) (by omega)
            omega), b4, if_pos hk1, if_pos (by omega), if_neg (by omega)]
        · have hjk1 : j = k - 1 := by omega
          rw [if_pos (by omega), if_pos (by omega)]
          have := hl (by omega)
          rw [← hjk1] at this
          exact this
      · rw [hr _ 8 b1 b2 (by omega) (fun z => by omega)]
        exact b5
/-- between them lies all -/
theorem KC.cov (h : KC S r w tp N0 n k e chf kp lv) {m : Nat} (h1 : n < m) (h2 : m < e) : ∃ j, j < k ∧ chf j ≤ m ∧ m < (if j + 1 < k then chf (j + 1) else e) := by
  obtain ⟨a1, a2, a3⟩ := h
  have : ∀ j, j ≤ k → m < (if j < k then chf j else e) → ∃ i, i < k ∧ chf i ≤ m ∧ m < (if i + 1 < k then chf (i + 1) else e) := by
    intro j
    induction j with
    | zero =>
      intro _ hm
      by_cases hk : 0 < k
      · rw [if_pos hk, a2 hk] at hm
        omega
      · rw [if_neg hk, a1 (by omega)] at hm
        omega
    | succ j ih =>
      intro hj hm
      by_cases hmj : m < chf j
      · exact ih (by omega) (by rw [if_pos (by omega)]; exact hmj)
      · exact ⟨j, by omega, by omega, hm⟩
  exact this k (Nat.le_refl _) (by rw [if_neg (by omega)]; exact h2)
/-- the whole node -/
theorem sub_of {kd sa : Nat} {lvn : Nat} (h : KC S r w tp N0 n k e chf kp lv) (hne : n < e) (hk1 : 1 ≤ k) (h0 : r n 0 = nI kd) (h5 : r n 5 = nI (n + 1)) (hK : nKd (sSet S n kd k e sa lvn chf) r n) (hO : oR (sSet S n kd k e sa lvn chf) r w tp N0 n) : sub (sSet S n kd k e sa lvn chf) r w tp N0 n e := by
  obtain ⟨q1, q2, q3, q4, q5, q6⟩ := sSet_n S n kd k e sa lvn chf
  have h' := h
  obtain ⟨a1, a2, a3⟩ := h
  refine ⟨q4, hne, fun m m1 m2 => ?_⟩
  by_cases hm : m = n
  · subst hm
    refine ⟨by rw [q4]; exact Nat.le_refl _, ⟨by rw [q4]; exact hne, by rw [q2]; exact h0, ?_, ?_, fun j hj => ?_⟩, hK, hO⟩
    · unfold sAt
      rw [q3, if_pos (by omega), q1, a2 (by omega)]
      exact h5
    · unfold sCp
      rw [q3, if_pos (by omega), q1, a2 (by omega)]
    · rw [q3] at hj
      obtain ⟨b1, b2, b3, b4, b5, b6, b7⟩ := a3 j hj
      have hs := sSet_m S kd k e sa lvn chf (show chf j ≠ m by omega)
      have hen : sEn (sSet S m kd k e sa lvn chf) (chf j) = if j + 1 < k then chf (j + 1) else e := hs.2.2.2.1.trans b3.1
      have hlt := b3.2.1
      rw [q1, hen]
      unfold sCp sAt
      rw [q3, q4, q1]
      exact ⟨hlt, rfl, b4, b5⟩
  · obtain ⟨j, j1, j2, j3⟩ := h'.cov (show n < m by omega) m2
    obtain ⟨b1, b2, b3, b4, b5, b6, b7⟩ := a3 j j1
    have hend : (if j + 1 < k then chf (j + 1) else e) ≤ e := by
      by_cases hk1 : j + 1 < k
      · rw [if_pos hk1]
        have := (a3 (j + 1) hk1).2.1
        omega
      · rw [if_neg hk1]
        exact Nat.le_refl _
    have hs : sub (sSet S n kd k e sa lvn chf) r w tp N0 (chf j) (if j + 1 < k then chf (j + 1) else e) := b3.fr (fun c c1 c2 => sSet_m S kd k e sa lvn chf (by omega)) (fun _ _ _ _ _ _ => rfl) (fun a x hx _ _ _ => ⟨hx, rfl⟩)
    obtain ⟨c1, c2, c3, c4⟩ := hs.2.2 m j2 j3
    exact ⟨by omega, c2, c3, c4⟩
/-- a leaf -/
theorem sub_leaf {kd sa lvn : Nat} (h0 : r n 0 = nI kd) (h5 : r n 5 = -1) (hK : nKd (sSet S n kd 0 (n + 1) sa lvn (fun _ => 0)) r n) (hO : oR (sSet S n kd 0 (n + 1) sa lvn (fun _ => 0)) r w tp N0 n) : sub (sSet S n kd 0 (n + 1) sa lvn (fun _ => 0)) r w tp N0 n (n + 1) := by
  obtain ⟨q1, q2, q3, q4, q5, q6⟩ := sSet_n S n kd 0 (n + 1) sa lvn (fun _ => 0)
  refine ⟨q4, by omega, fun m m1 m2 => ?_⟩
  obtain rfl : m = n := by omega
  refine ⟨by rw [q4]; exact Nat.le_refl _, ⟨by rw [q4]; omega, by rw [q2]; exact h0, ?_, ?_, fun j hj => ?_⟩, hK, hO⟩
  · unfold sAt
    rw [q3, if_neg (by omega)]
    exact h5
  · unfold sCp
    rw [q3, if_neg (by omega), q4]
  · rw [q3] at hj
    omega
/-- what is known of all nodes so far -/
def pG (S : SV) (r : Nat → Nat → Int32) (nd it mo P : Nat) : Prop := pSum (fun n => if sKd S n = 0 then 0 else 1) nd = it ∧ dIs S 4 mo 0 nd ∧ ∃ f : Nat → Nat, (∀ n, n < nd → r n 7 = nI (f n) ∧ f n ≤ P) ∧ (∀ n m, n < m → m < nd → sKd S n ≠ 0 → sKd S m ≠ 0 → f n < f m) ∧ ∀ n, n < nd → sKd S n ≠ 0 → f n < P
theorem pSum_eq {f g : Nat → Nat} {n : Nat} (h : ∀ k, k < n → f k = g k) : pSum f n = pSum g n := by
  induction n with
  | zero => rfl
  | succ n ih =>
    show pSum f n + f n = pSum g n + g n
    rw [ih (fun k hk => h k (by omega)), h n (by omega)]
theorem pG.fr {nd it mo P P1 : Nat} (h : pG S r nd it mo P) (hS : ∀ m, m < nd → sKd S1 m = sKd S m ∧ sLv S1 m = sLv S m) (hr : ∀ m, m < nd → r1 m 7 = r m 7) (hP : P ≤ P1) : pG S1 r1 nd it mo P1 := by
  obtain ⟨a, ⟨b1, b2⟩, f, f1, f2, f3⟩ := h
  refine ⟨?_, ⟨fun m _ m2 hk => ?_, ?_⟩, f, fun m hm => ⟨(hr m hm).trans (f1 m hm).1, Nat.le_trans (f1 m hm).2 hP⟩, fun m m' h1 h2 h3 h4 => ?_, fun m hm hk => ?_⟩
  · rw [← a]
    exact pSum_eq (fun m hm => by rw [(hS m hm).1])
  · rw [(hS m m2).1] at hk
    rw [(hS m m2).2]
    exact b1 m (Nat.zero_le _) m2 hk
  · rcases b2 with z | ⟨m, m1, m2, m3, m4⟩
    · exact Or.inl z
    · exact Or.inr ⟨m, m1, m2, by rw [(hS m m2).1]; exact m3, by rw [(hS m m2).2]; exact m4⟩
  · rw [(hS m (by omega)).1] at h3
    rw [(hS m' h2).1] at h4
    exact f2 m m' h1 h2 h3 h4
  · rw [(hS m hm).1] at hk
    exact Nat.lt_of_lt_of_le (f3 m hm hk) hP
/-- one more node -/
theorem pG.add {nd it mo mo1 P P1 : Nat} (h : pG S r nd it mo P) (hr : r nd 7 = nI P) (hP : P ≤ P1) (h0 : sKd S nd ≠ 0 → P < P1) (hm1 : mo1 = if sKd S nd = 5 ∨ sKd S nd = 6 then max mo (5 - sLv S nd) else mo) (hl : sLv S nd ≤ 4) : pG S r (nd + 1) (it + if sKd S nd = 0 then 0 else 1) mo1 P1 := by
  obtain ⟨a, ⟨b1, b2⟩, f, f1, f2, f3⟩ := h
  have hle : mo ≤ mo1 := by
    rw [hm1]
    split
    · exact Nat.le_max_left _ _
    · exact Nat.le_refl _
  refine ⟨?_, ⟨fun m _ m2 hk => ?_, ?_⟩, fun m => if m = nd then P else f m, fun m hm => ?_, fun m m' h1 h2 h3 h4 => ?_, fun m hm hk => ?_⟩
  · show pSum _ nd + _ = _
    rw [a]
  · by_cases hmn : m = nd
    · rw [hmn] at hk ⊢
      rw [if_pos hk] at hm1
      have := Nat.le_max_right mo (5 - sLv S nd)
      omega
    · have := b1 m (Nat.zero_le _) (by omega) hk
      omega
  · by_cases hk : sKd S nd = 5 ∨ sKd S nd = 6
    · rw [if_pos hk] at hm1
      by_cases hmx : mo ≤ 5 - sLv S nd
      · rw [Nat.max_eq_right hmx] at hm1
        refine Or.inr ⟨nd, Nat.zero_le _, Nat.lt_succ_self _, hk, ?_⟩
        rw [hm1]
        exact (Nat.add_sub_cancel' (Nat.le_succ_of_le hl)).symm
      · rw [Nat.max_eq_left (by omega)] at hm1
        rcases b2 with z | ⟨m, m1, m2, m3, m4⟩
        · exact Or.inl (hm1.trans z)
        · exact Or.inr ⟨m, m1, Nat.lt_succ_of_lt m2, m3, by rw [hm1]; exact m4⟩
    · rw [if_neg hk] at hm1
      rcases b2 with z | ⟨m, m1, m2, m3, m4⟩
      · exact Or.inl (hm1.trans z)
      · exact Or.inr ⟨m, m1, Nat.lt_succ_of_lt m2, m3, by rw [hm1]; exact m4⟩
  · show r m 7 = nI (if m = nd then P else f m) ∧ (if m = nd then P else f m) ≤ P1
    by_cases hmn : m = nd
    · rw [if_pos hmn, hmn]
      exact ⟨hr, hP⟩
    · rw [if_neg hmn]
      exact ⟨(f1 m (by omega)).1, Nat.le_trans (f1 m (by omega)).2 hP⟩
  · show (if m = nd then P else f m) < (if m' = nd then P else f m')
    rw [if_neg (by omega)]
    by_cases hmn : m' = nd
    · rw [if_pos hmn]
      exact f3 m (by omega) h3
    · rw [if_neg hmn]
      exact f2 m m' h1 (by omega) h3 h4
  · show (if m = nd then P else f m) < P1
    by_cases hmn : m = nd
    · rw [if_pos hmn]
      rw [hmn] at hk
      exact h0 hk
    · rw [if_neg hmn]
      exact Nat.lt_of_lt_of_le (f3 m (by omega) hk) hP
end KI
