set_option maxRecDepth 100000
/-! A PARALLEL's RUN: the reference's begins, up to the loop -/
section PB
variable {S : SV} {σ : TS} {xa mo ia i ver T : Nat} {bo un : Option Nat}
/-- behind the bodies' first looks: a whole look -/
def kLk (rec : Int32 → Int32 → TS → Option (Int32 × TS)) (x22 x23 : Int32) (w21 : TS) : Option (Int32 × TS) := gB2 (t_X2_looks rec x22 x23 w21) fun x25 w24 => some (x25, w24)
theorem par_beg_t {n B : Nat} {w : gw} {tg : pT} {s : Nat → Int32} {rec : Int32 → Int32 → TS → Option (Int32 × TS)} (hW : pW S σ xa mo ia i ver T w tg s B bo un) (hnn : n < sEn S 0) (hk6 : sKd S n = 6) (u0 : s (21 + 1262 * (i) + (622 + 10 * (n) + 0)) = nI 0) : t_X2_begins rec (nI i) (nI n) (tS σ s) = gL3 (bt_X2_begins_1 (kLk rec) rec) 20000 (nI i) (nI n) (sAt S n 0) (tS σ (uBeg i n s)) := by
  have hS : sWf S := hW.1.2.2.1
  have hNs : sEn S 0 ≤ 64 := hS.1
  have hi : i < 6 := hW.1.2.1
  have hN := hS.2.2.2.2.2 n hnn
  have hWb := hW.beg hnn u0
  have k0 : t_X2_nodePart (nI i) (nI n) (nI 0) (tS σ (uBeg i n s)) = some (nI 6, tS σ (uBeg i n s)) := by rw [hWb.np hnn (by omega), hN.1.2.2.1, hk6]
  have k5 : t_X2_nodePart (nI i) (nI n) (nI 5) (tS σ (uBeg i n s)) = some (sAt S n 0, tS σ (uBeg i n s)) := by
    rw [hWb.np hnn (by omega), hN.1.2.2.2.1]
  have en0 : ∀ w : TS, t_X2_at (nI i) (nI n) (nI 0) w = _ := fun w => pt_at w
  have en1 : ∀ w : TS, t_X2_at (nI i) (nI n) (nI 1) w = _ := fun w => pt_at w
  have hu : upd (upd s (21 + 1262 * (i) + (622 + 10 * (n) + 0)) (nI 1)) (21 + 1262 * (i) + (622 + 10 * (n) + 1)) (s 0) = uBeg i n s := rfl
  have y1 : ¬ nI 6 = nI 1 := by decide
  have y5 : ¬ nI 6 = nI 5 := by decide
  unfold t_X2_begins
  rw [en0, pu_B2, pu_st5 (by omega), pu_B1, en1, pu_B2, pu_ld5 (by omega), pu_B1, pu_st5 (by omega), pu_B1, upd_ne (by omega), hu, k0, pu_B2, pu_Bd, if_neg y1]
  try dsimp only
  rw [pu_Bd, if_neg y5]
  try dsimp only
  rw [pu_Bd, if_pos rfl, k5, pu_B2]
  rfl
end PB
