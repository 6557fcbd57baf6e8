set_option maxRecDepth 100000
def t_J6_max (p0 : Int32) (p1 : Int32) (w0 : TS) : Option (Int32 × TS) := if p0 < p1 then some (p1, w0) else some (p0, w0)
set_option maxHeartbeats 4000000 in
set_option maxRecDepth 100000 in
theorem kt_J6_max {D : va_G} {dA : Nat → ClassId} {A : Nat → Prop} {K : Nat → Nat} {l : Launch} {wb : gw} {ad : Nat → Nat} (hinj : tInj ad) {h : Nat} (hh : 0 ≤ h) {p0 : Int32} {p1 : Int32} {w0 ww : TS} {rr : Int32} (hf : t_J6_max p0 p1 w0 = some (rr, ww)) : gMet D dA A K l yJ6_max (ws_ yJ6_max cJ6_max 2 (some .int)) h [(gi p0), (gi p1)] (some (gi rr)) (twOf wb ad w0) (twOf wb ad ww) := by
  refine j_start (own := RJ6) (by decide +kernel) rfl (Nat.le_of_ble_eq_true rfl) ?_
  intro p e R s m args below meth c C hr hin hw
  unfold t_J6_max at hf
  show gJ D dA A K p l e R s m args below meth c (gEnd D dA A K below args s (twOf wb ad w0) (some (gi rr)) (twOf wb ad ww)) 2 0 [(0, (gi p0)), (1, (gi p1))] [] (twOf wb ad w0)
  refine j_iload_n C dJ6_max_0 rfl ?_
  refine j_iload_n C dJ6_max_1 rfl ?_
  refine j_icmp_lt (tgt := 9) C dJ6_max_2 (by decide) (fun c1 => ?_) (fun c1 => ?_)
  · replace hf := gIf_t hf c1
    refine j_iload_n C dJ6_max_9 rfl ?_
    obtain ⟨rfl, rfl⟩ := gSome hf
    exact j_iret C hr hw dJ6_max_10
  · replace hf := gIf_f hf c1
    refine j_iload_n C dJ6_max_5 rfl ?_
    refine j_goto (tgt := 10) C dJ6_max_6 (by decide) ?_
    obtain ⟨rfl, rfl⟩ := gSome hf
    exact j_iret C hr hw dJ6_max_10
def t_J6_min (p0 : Int32) (p1 : Int32) (w0 : TS) : Option (Int32 × TS) := if p1 < p0 then some (p1, w0) else some (p0, w0)
set_option maxHeartbeats 4000000 in
set_option maxRecDepth 100000 in
theorem kt_J6_min {D : va_G} {dA : Nat → ClassId} {A : Nat → Prop} {K : Nat → Nat} {l : Launch} {wb : gw} {ad : Nat → Nat} (hinj : tInj ad) {h : Nat} (hh : 0 ≤ h) {p0 : Int32} {p1 : Int32} {w0 ww : TS} {rr : Int32} (hf : t_J6_min p0 p1 w0 = some (rr, ww)) : gMet D dA A K l yJ6_min (ws_ yJ6_min cJ6_min 2 (some .int)) h [(gi p0), (gi p1)] (some (gi rr)) (twOf wb ad w0) (twOf wb ad ww) := by
  refine j_start (own := RJ6) (by decide +kernel) rfl (Nat.le_of_ble_eq_true rfl) ?_
  intro p e R s m args below meth c C hr hin hw
  unfold t_J6_min at hf
  show gJ D dA A K p l e R s m args below meth c (gEnd D dA A K below args s (twOf wb ad w0) (some (gi rr)) (twOf wb ad ww)) 2 0 [(0, (gi p0)), (1, (gi p1))] [] (twOf wb ad w0)
  refine j_iload_n C dJ6_min_0 rfl ?_
  refine j_iload_n C dJ6_min_1 rfl ?_
  refine j_icmp_gt (tgt := 9) C dJ6_min_2 (by decide) (fun c1 => ?_) (fun c1 => ?_)
  · replace hf := gIf_t hf c1
    refine j_iload_n C dJ6_min_9 rfl ?_
    obtain ⟨rfl, rfl⟩ := gSome hf
    exact j_iret C hr hw dJ6_min_10
  · replace hf := gIf_f hf c1
    refine j_iload_n C dJ6_min_5 rfl ?_
    refine j_goto (tgt := 10) C dJ6_min_6 (by decide) ?_
    obtain ⟨rfl, rfl⟩ := gSome hf
    exact j_iret C hr hw dJ6_min_10
def t_J10_isNaN (p0 : UInt32) (w0 : TS) : Option (Int32 × TS) := if (Op.cmpValue (FP.fcmp p0 p0) .l) = 0 then some ((nI 0), w0) else some ((nI 1), w0)
set_option maxHeartbeats 4000000 in
set_option maxRecDepth 100000 in
theorem kt_J10_isNaN {D : va_G} {dA : Nat → ClassId} {A : Nat → Prop} {K : Nat → Nat} {l : Launch} {wb : gw} {ad : Nat → Nat} (hinj : tInj ad) {h : Nat} (hh : 0 ≤ h) {p0 : UInt32} {w0 ww : TS} {rr : Int32} (hf : t_J10_isNaN p0 w0 = some (rr, ww)) : gMet D dA A K l yJ10_isNaN (ws_ yJ10_isNaN cJ10_isNaN 1 (some .boolean)) h [(gfl p0)] (some (gi rr)) (twOf wb ad w0) (twOf wb ad ww) := by
  refine j_start (own := RJ10) (by decide +kernel) rfl (Nat.le_of_ble_eq_true rfl) ?_
  intro p e R s m args below meth c C hr hin hw
  unfold t_J10_isNaN at hf
  show gJ D dA A K p l e R s m args below meth c (gEnd D dA A K below args s (twOf wb ad w0) (some (gi rr)) (twOf wb ad ww)) 1 0 [(0, (gfl p0))] [] (twOf wb ad w0)
  refine j_fload_n C dJ10_isNaN_0 rfl ?_
  refine j_fload_n C dJ10_isNaN_1 rfl ?_
  refine j_fcmp C dJ10_isNaN_2 ?_
  refine j_if_eq (tgt := 10) C dJ10_isNaN_3 (by decide) (fun c1 => ?_) (fun c1 => ?_)
  · replace hf := gIf_t hf c1
    refine j_iconst (v := (nI 0)) C dJ10_isNaN_10 (by decide) ?_
    obtain ⟨rfl, rfl⟩ := gSome hf
    exact j_zret C hr (by decide) hw dJ10_isNaN_11
  · replace hf := gIf_f hf c1
    refine j_iconst (v := (nI 1)) C dJ10_isNaN_6 (by decide) ?_
    refine j_goto (tgt := 11) C dJ10_isNaN_7 (by decide) ?_
    obtain ⟨rfl, rfl⟩ := gSome hf
    exact j_zret C hr (by decide) hw dJ10_isNaN_11
def t_J10_floatToIntBits (p0 : UInt32) (w0 : TS) : Option (Int32 × TS) := gB2 (t_J10_isNaN p0 w0) fun x2 w1 => if x2 = 0 then some (p0.toInt32, w1) else some ((nI 2143289344), w1)
set_option maxHeartbeats 4000000 in
set_option maxRecDepth 100000 in
theorem kt_J10_floatToIntBits {D : va_G} {dA : Nat → ClassId} {A : Nat → Prop} {K : Nat → Nat} {l : Launch} {wb : gw} {ad : Nat → Nat} (hinj : tInj ad) {h : Nat} (hh : 1 ≤ h) {p0 : UInt32} {w0 ww : TS} {rr : Int32} (hf : t_J10_floatToIntBits p0 w0 = some (rr, ww)) : gMet D dA A K l yJ10_floatToIntBits (ws_ yJ10_floatToIntBits cJ10_floatToIntBits 1 (some .int)) h [(gfl p0)] (some (gi rr)) (twOf wb ad w0) (twOf wb ad ww) := by
  refine j_start (own := RJ10) (by decide +kernel) rfl (Nat.le_of_ble_eq_true rfl) ?_
  intro p e R s m args below meth c C hr hin hw
  unfold t_J10_floatToIntBits at hf
  show gJ D dA A K p l e R s m args below meth c (gEnd D dA A K below args s (twOf wb ad w0) (some (gi rr)) (twOf wb ad ww)) 1 0 [(0, (gfl p0))] [] (twOf wb ad w0)
  refine j_fload_n C dJ10_floatToIntBits_0 rfl ?_
  replace hf := gB2_e hf
  obtain ⟨x2, w1, ew1, hf⟩ := hf
  refine j_callS (As := [(gfl p0)]) (rest := []) (v := (some (gi x2))) C (by omega) (kt_J10_isNaN hinj (by omega) ew1) q1524 q1525 q132 q1526 hd_J10_isNaN (by decide) rfl (Nat.le_of_ble_eq_true rfl) dJ10_floatToIntBits_1 ?_
  refine j_if_ne (tgt := 12) C dJ10_floatToIntBits_4 (by decide) (fun c3 => ?_) (fun c3 => ?_)
  · replace hf := gIf_f hf c3
    refine j_ldc (v := (nI 2143289344)) C q1530 dJ10_floatToIntBits_12 ?_
    obtain ⟨rfl, rfl⟩ := gSome hf
    exact j_iret C hr hw dJ10_floatToIntBits_14
  · replace hf := gIf_t hf c3
    refine j_fload_n C dJ10_floatToIntBits_7 rfl ?_
    refine j_f2i C (by omega) q1527 q1529 q1528 q132 (Nat.le_of_ble_eq_true rfl) dJ10_floatToIntBits_8 ?_
    obtain ⟨rfl, rfl⟩ := gSome hf
    exact j_iret C hr hw dJ10_floatToIntBits_11
def dkwX2_isIn_0 : List UInt8 := [26, 27, 161, 0, 12, 26, 28, 163, 0, 7, 4, 167, 0, 4, 3, 172]
abbrev dktX2_isIn_0 : List UInt8 := dkwX2_isIn_0 ++ []
theorem dksX2_isIn_0 : cX2_isIn.data.toList.drop 0 = dktX2_isIn_0 := by decide +kernel
theorem dX2_isIn_0 : decode cX2_isIn 0 = .ok (.iload_n 0, 1) := dk_26 (dk_at dksX2_isIn_0 0 rfl rfl)
theorem dX2_isIn_1 : decode cX2_isIn 1 = .ok (.iload_n 1, 1) := dk_27 (dk_at dksX2_isIn_0 1 rfl rfl)
theorem dX2_isIn_2 : decode cX2_isIn 2 = .ok (.if_icmp .lt 12, 3) := dk_161 0 12 (dk_at dksX2_isIn_0 2 rfl rfl)
theorem dX2_isIn_5 : decode cX2_isIn 5 = .ok (.iload_n 0, 1) := dk_26 (dk_at dksX2_isIn_0 5 rfl rfl)
theorem dX2_isIn_6 : decode cX2_isIn 6 = .ok (.iload_n 2, 1) := dk_28 (dk_at dksX2_isIn_0 6 rfl rfl)
theorem dX2_isIn_7 : decode cX2_isIn 7 = .ok (.if_icmp .gt 7, 3) := dk_163 0 7 (dk_at dksX2_isIn_0 7 rfl rfl)
theorem dX2_isIn_10 : decode cX2_isIn 10 = .ok (.iconst 1, 1) := dk_4 (dk_at dksX2_isIn_0 10 rfl rfl)
theorem dX2_isIn_11 : decode cX2_isIn 11 = .ok (.goto 4, 3) := dk_167 0 4 (dk_at dksX2_isIn_0 11 rfl rfl)
theorem dX2_isIn_14 : decode cX2_isIn 14 = .ok (.iconst 0, 1) := dk_3 (dk_at dksX2_isIn_0 14 rfl rfl)
theorem dX2_isIn_15 : decode cX2_isIn 15 = .ok (.ireturn, 1) := dk_172 (dk_at dksX2_isIn_0 15 rfl rfl)
def t_X2_isIn (p0 : Int32) (p1 : Int32) (p2 : Int32) (w0 : TS) : Option (Int32 × TS) := gBd (fun (w2 : TS) => some ((nI 0), w2)) fun k1 => if p0 < p1 then k1 w0 else if p2 < p0 then k1 w0 else some ((nI 1), w0)
set_option maxHeartbeats 4000000 in
set_option maxRecDepth 100000 in
theorem kt_X2_isIn {D : va_G} {dA : Nat → ClassId} {A : Nat → Prop} {K : Nat → Nat} {l : Launch} {wb : gw} {ad : Nat → Nat} (hinj : tInj ad) {h : Nat} (hh : 0 ≤ h) {p0 : Int32} {p1 : Int32} {p2 : Int32} {w0 ww : TS} {rr : Int32} (hf : t_X2_isIn p0 p1 p2 w0 = some (rr, ww)) : gMet D dA A K l yX2_isIn (ws_ yX2_isIn cX2_isIn 3 (some .boolean)) h [(gi p0), (gi p1), (gi p2)] (some (gi rr)) (twOf wb ad w0) (twOf wb ad ww) := by
  refine j_start (own := RX2) (by decide +kernel) rfl (Nat.le_of_ble_eq_true rfl) ?_
  intro p e R s m args below meth c C hr hin hw
  unfold t_X2_isIn at hf
  show gJ D dA A K p l e R s m args below meth c (gEnd D dA A K below args s (twOf wb ad w0) (some (gi rr)) (twOf wb ad ww)) 3 0 [(0, (gi p0)), (1, (gi p1)), (2, (gi p2))] [] (twOf wb ad w0)
  refine j_iload_n C dX2_isIn_0 rfl ?_
  refine j_iload_n C dX2_isIn_1 rfl ?_
  replace hf := gBd_x hf
  obtain ⟨k1, ek1, hf⟩ := hf
  have jk1 : ∀ (w2 : TS), k1 w2 = some (rr, ww) → gJ D dA A K p l e R s m args below meth c (gEnd D dA A K below args s (twOf wb ad w0) (some (gi rr)) (twOf wb ad ww)) 3 14 [] [] (twOf wb ad w2) := by
    intro w2 hf
    rw [ek1] at hf
    dsimp only at hf
    refine j_iconst (v := (nI 0)) C dX2_isIn_14 (by decide) ?_
    obtain ⟨rfl, rfl⟩ := gSome hf
    exact j_zret C hr (by decide) hw dX2_isIn_15
  clear ek1
  refine j_icmp_lt (tgt := 14) C dX2_isIn_2 (by decide) (fun c3 => ?_) (fun c3 => ?_)
  · replace hf := gIf_t hf c3
    refine j_sub (lv' := []) (gL_nil) ?_
    exact jk1 _ hf
  · replace hf := gIf_f hf c3
    refine j_iload_n C dX2_isIn_5 rfl ?_
    refine j_iload_n C dX2_isIn_6 rfl ?_
    refine j_icmp_gt (tgt := 14) C dX2_isIn_7 (by decide) (fun c4 => ?_) (fun c4 => ?_)
    · replace hf := gIf_t hf c4
      refine j_sub (lv' := []) (gL_nil) ?_
      exact jk1 _ hf
    · replace hf := gIf_f hf c4
      refine j_iconst (v := (nI 1)) C dX2_isIn_10 (by decide) ?_
      refine j_goto (tgt := 15) C dX2_isIn_11 (by decide) ?_
      obtain ⟨rfl, rfl⟩ := gSome hf
      exact j_zret C hr (by decide) hw dX2_isIn_15
def dkwX2_isWorkflow_0 : List UInt8 := [26, 3, 6, 184, 0, 38, 172]
abbrev dktX2_isWorkflow_0 : List UInt8 := dkwX2_isWorkflow_0 ++ []
theorem dksX2_isWorkflow_0 : cX2_isWorkflow.data.toList.drop 0 = dktX2_isWorkflow_0 := by decide +kernel
theorem dX2_isWorkflow_0 : decode cX2_isWorkflow 0 = .ok (.iload_n 0, 1) := dk_26 (dk_at dksX2_isWorkflow_0 0 rfl rfl)
theorem dX2_isWorkflow_1 : decode cX2_isWorkflow 1 = .ok (.iconst 0, 1) := dk_3 (dk_at dksX2_isWorkflow_0 1 rfl rfl)
theorem dX2_isWorkflow_2 : decode cX2_isWorkflow 2 = .ok (.iconst 3, 1) := dk_6 (dk_at dksX2_isWorkflow_0 2 rfl rfl)
theorem dX2_isWorkflow_3 : decode cX2_isWorkflow 3 = .ok (.invokestatic 38, 3) := dk_184 0 38 (dk_at dksX2_isWorkflow_0 3 rfl rfl)
theorem dX2_isWorkflow_6 : decode cX2_isWorkflow 6 = .ok (.ireturn, 1) := dk_172 (dk_at dksX2_isWorkflow_0 6 rfl rfl)
theorem hd_X2_isIn : (yX2_isIn.cls ≠ "java/lang/invoke/MethodHandle" ∧ yX2_isIn.cls ≠ "java/lang/invoke/VarHandle" ∧ (parseMethodDescriptor yX2_isIn.desc).map (fun d => d.parameters.length) = some 3) := ⟨by decide +kernel, by decide +kernel, by decide +kernel⟩
def t_X2_isWorkflow (p0 : Int32) (w0 : TS) : Option (Int32 × TS) := gB2 (t_X2_isIn p0 (nI 0) (nI 3) w0) fun x2 w1 => gB1 (gZ x2) fun _ => some (x2, w1)
set_option maxHeartbeats 4000000 in
set_option maxRecDepth 100000 in
theorem kt_X2_isWorkflow {D : va_G} {dA : Nat → ClassId} {A : Nat → Prop} {K : Nat → Nat} {l : Launch} {wb : gw} {ad : Nat → Nat} (hinj : tInj ad) {h : Nat} (hh : 1 ≤ h) {p0 : Int32} {w0 ww : TS} {rr : Int32} (hf : t_X2_isWorkflow p0 w0 = some (rr, ww)) : gMet D dA A K l yX2_isWorkflow (ws_ yX2_isWorkflow cX2_isWorkflow 1 (some .boolean)) h [(gi p0)] (some (gi rr)) (twOf wb ad w0) (twOf wb ad ww) := by
  refine j_start (own := RX2) (by decide +kernel) rfl (Nat.le_of_ble_eq_true rfl) ?_
  intro p e R s m args below meth c C hr hin hw
  unfold t_X2_isWorkflow at hf
  show gJ D dA A K p l e R s m args below meth c (gEnd D dA A K below args s (twOf wb ad w0) (some (gi rr)) (twOf wb ad ww)) 1 0 [(0, (gi p0))] [] (twOf wb ad w0)
  refine j_iload_n C dX2_isWorkflow_0 rfl ?_
  refine j_iconst (v := (nI 0)) C dX2_isWorkflow_1 (by decide) ?_
  refine j_iconst (v := (nI 3)) C dX2_isWorkflow_2 (by decide) ?_
  replace hf := gB2_e hf
  obtain ⟨x2, w1, ew1, hf⟩ := hf
  refine j_callS (As := [(gi p0), (gi (nI 0)), (gi (nI 3))]) (rest := []) (v := (some (gi x2))) C (by omega) (kt_X2_isIn hinj (by omega) ew1) q1662 q1663 q93 q1664 hd_X2_isIn (by decide) rfl (Nat.le_of_ble_eq_true rfl) dX2_isWorkflow_3 ?_
  replace hf := gB1_e hf
  obtain ⟨_, ez, hf⟩ := hf
  obtain ⟨rfl, rfl⟩ := gSome hf
  exact j_zret C hr (gZ_n (gZ_e ez)) hw dX2_isWorkflow_6
def dkwX2_part_0 : List UInt8 := [16, 64, 26, 104, 27, 96, 16, 9, 104, 28, 96, 172]
abbrev dktX2_part_0 : List UInt8 := dkwX2_part_0 ++ []
theorem dksX2_part_0 : cX2_part.data.toList.drop 0 = dktX2_part_0 := by decide +kernel
theorem dX2_part_0 : decode cX2_part 0 = .ok (.bipush 64, 2) := dk_16 64 (dk_at dksX2_part_0 0 rfl rfl)
theorem dX2_part_2 : decode cX2_part 2 = .ok (.iload_n 0, 1) := dk_26 (dk_at dksX2_part_0 2 rfl rfl)
theorem dX2_part_3 : decode cX2_part 3 = .ok (.imul, 1) := dk_104 (dk_at dksX2_part_0 3 rfl rfl)
theorem dX2_part_4 : decode cX2_part 4 = .ok (.iload_n 1, 1) := dk_27 (dk_at dksX2_part_0 4 rfl rfl)
theorem dX2_part_5 : decode cX2_part 5 = .ok (.iadd, 1) := dk_96 (dk_at dksX2_part_0 5 rfl rfl)
theorem dX2_part_6 : decode cX2_part 6 = .ok (.bipush 9, 2) := dk_16 9 (dk_at dksX2_part_0 6 rfl rfl)
theorem dX2_part_8 : decode cX2_part 8 = .ok (.imul, 1) := dk_104 (dk_at dksX2_part_0 8 rfl rfl)
theorem dX2_part_9 : decode cX2_part 9 = .ok (.iload_n 2, 1) := dk_28 (dk_at dksX2_part_0 9 rfl rfl)
theorem dX2_part_10 : decode cX2_part 10 = .ok (.iadd, 1) := dk_96 (dk_at dksX2_part_0 10 rfl rfl)
theorem dX2_part_11 : decode cX2_part 11 = .ok (.ireturn, 1) := dk_172 (dk_at dksX2_part_0 11 rfl rfl)
def t_X2_part (p0 : Int32) (p1 : Int32) (p2 : Int32) (w0 : TS) : Option (Int32 × TS) := some ((((((nI 64) * p0) + p1) * (nI 9)) + p2), w0)
set_option maxHeartbeats 4000000 in
set_option maxRecDepth 100000 in
theorem kt_X2_part {D : va_G} {dA : Nat → ClassId} {A : Nat → Prop} {K : Nat → Nat} {l : Launch} {wb : gw} {ad : Nat → Nat} (hinj : tInj ad) {h : Nat} (hh : 0 ≤ h) {p0 : Int32} {p1 : Int32} {p2 : Int32} {w0 ww : TS} {rr : Int32} (hf : t_X2_part p0 p1 p2 w0 = some (rr, ww)) : gMet D dA A K l yX2_part (ws_ yX2_part cX2_part 3 (some .int)) h [(gi p0), (gi p1), (gi p2)] (some (gi rr)) (twOf wb ad w0) (twOf wb ad ww) := by
  refine j_start (own := RX2) (by decide +kernel) rfl (Nat.le_of_ble_eq_true rfl) ?_
  intro p e R s m args below meth c C hr hin hw
  unfold t_X2_part at hf
  show gJ D dA A K p l e R s m args below meth c (gEnd D dA A K below args s (twOf wb ad w0) (some (gi rr)) (twOf wb ad ww)) 3 0 [(0, (gi p0)), (1, (gi p1)), (2, (gi p2))] [] (twOf wb ad w0)
  refine j_bipush (v := (nI 64)) C dX2_part_0 (by decide) ?_
  refine j_iload_n C dX2_part_2 rfl ?_
  refine j_imul C dX2_part_3 ?_
  refine j_iload_n C dX2_part_4 rfl ?_
  refine j_iadd C dX2_part_5 ?_
  refine j_bipush (v := (nI 9)) C dX2_part_6 (by decide) ?_
  refine j_imul C dX2_part_8 ?_
  refine j_iload_n C dX2_part_9 rfl ?_
  refine j_iadd C dX2_part_10 ?_
  obtain ⟨rfl, rfl⟩ := gSome hf
  exact j_iret C hr hw dX2_part_11
def dkwX2_here_1 : List UInt8 := [172]
abbrev dktX2_here_1 : List UInt8 := dkwX2_here_1 ++ []
def dkwX2_here_0 : List UInt8 := [42, 180, 0, 45, 42, 180, 0, 42, 162, 0, 15, 42, 180, 0, 31, 42, 180, 0, 45, 46, 167, 0, 4, 2]
abbrev dktX2_here_0 : List UInt8 := dkwX2_here_0 ++ dktX2_here_1
theorem dksX2_here_0 : cX2_here.data.toList.drop 0 = dktX2_here_0 := by decide +kernel
theorem dksX2_here_1 : cX2_here.data.toList.drop 24 = dktX2_here_1 := dk_seg dksX2_here_0 24 rfl rfl
theorem dX2_here_0 : decode cX2_here 0 = .ok (.aload_n 0, 1) := dk_42 (dk_at dksX2_here_0 0 rfl rfl)
theorem dX2_here_1 : decode cX2_here 1 = .ok (.getfield 45, 3) := dk_180 0 45 (dk_at dksX2_here_0 1 rfl rfl)
theorem dX2_here_4 : decode cX2_here 4 = .ok (.aload_n 0, 1) := dk_42 (dk_at dksX2_here_0 4 rfl rfl)
theorem dX2_here_5 : decode cX2_here 5 = .ok (.getfield 42, 3) := dk_180 0 42 (dk_at dksX2_here_0 5 rfl rfl)
theorem dX2_here_8 : decode cX2_here 8 = .ok (.if_icmp .ge 15, 3) := dk_162 0 15 (dk_at dksX2_here_0 8 rfl rfl)
theorem dX2_here_11 : decode cX2_here 11 = .ok (.aload_n 0, 1) := dk_42 (dk_at dksX2_here_0 11 rfl rfl)
theorem dX2_here_12 : decode cX2_here 12 = .ok (.getfield 31, 3) := dk_180 0 31 (dk_at dksX2_here_0 12 rfl rfl)
theorem dX2_here_15 : decode cX2_here 15 = .ok (.aload_n 0, 1) := dk_42 (dk_at dksX2_here_0 15 rfl rfl)
theorem dX2_here_16 : decode cX2_here 16 = .ok (.getfield 45, 3) := dk_180 0 45 (dk_at dksX2_here_0 16 rfl rfl)
theorem dX2_here_19 : decode cX2_here 19 = .ok (.iaload, 1) := dk_46 (dk_at dksX2_here_0 19 rfl rfl)
theorem dX2_here_20 : decode cX2_here 20 = .ok (.goto 4, 3) := dk_167 0 4 (dk_at dksX2_here_0 20 rfl rfl)
theorem dX2_here_23 : decode cX2_here 23 = .ok (.iconst (-1), 1) := dk_2 (dk_at dksX2_here_0 23 rfl rfl)
theorem dX2_here_24 : decode cX2_here 24 = .ok (.ireturn, 1) := dk_172 (dk_at dksX2_here_1 0 rfl rfl)
theorem fl_X2_45_2 : gFL RX2 45 2 12 := gFL.mk (Cn := RX2) (T := TX2) (N := 21) (ref := "WorkflowEngineModel") rfl in_X2 (by decide) q1606 rfl rfl (Or.inl rfl)
theorem fl_X2_42_2 : gFL RX2 42 2 9 := gFL.mk (Cn := RX2) (T := TX2) (N := 21) (ref := "WorkflowEngineModel") rfl in_X2 (by decide) q1603 rfl rfl (Or.inl rfl)
def t_X2_here  (w0 : TS) : Option (Int32 × TS) := if (w0 0 9) ≤ (w0 0 12) then some ((-1), w0) else gB1 (tLd w0 8 (w0 0 12)) fun x2 => some (x2, w0)
set_option maxHeartbeats 4000000 in
set_option maxRecDepth 100000 in
theorem kt_X2_here {D : va_G} {dA : Nat → ClassId} {A : Nat → Prop} {K : Nat → Nat} {l : Launch} {wb : gw} {ad : Nat → Nat} (hinj : tInj ad) {h : Nat} (hh : 0 ≤ h)  {w0 ww : TS} {rr : Int32} (hf : t_X2_here  w0 = some (rr, ww)) : gMet D dA A K l yX2_here (ws_ yX2_here cX2_here 1 (some .int)) h [(ga (some (ad 0)))] (some (gi rr)) (twOf wb ad w0) (twOf wb ad ww) := by
  refine j_start (own := RX2) (by decide +kernel) rfl (Nat.le_of_ble_eq_true rfl) ?_
  intro p e R s m args below meth c C hr hin hw
  unfold t_X2_here at hf
  show gJ D dA A K p l e R s m args below meth c (gEnd D dA A K below args s (twOf wb ad w0) (some (gi rr)) (twOf wb ad ww)) 1 0 [(0, (ga (some (ad 0))))] [] (twOf wb ad w0)
  refine j_aload_n C dX2_here_0 rfl ?_
  refine j_get (v := (gi (w0 0 12))) C fl_X2_45_2 dX2_here_1 (tw_F hinj rfl) ?_
  refine j_aload_n C dX2_here_4 rfl ?_
  refine j_get (v := (gi (w0 0 9))) C fl_X2_42_2 dX2_here_5 (tw_F hinj rfl) ?_
  refine j_icmp_ge (tgt := 23) C dX2_here_8 (by decide) (fun c1 => ?_) (fun c1 => ?_)
  · replace hf := gIf_t hf c1
    refine j_iconst (v := (-1)) C dX2_here_23 (by decide) ?_
    obtain ⟨rfl, rfl⟩ := gSome hf
    exact j_iret C hr hw dX2_here_24
  · replace hf := gIf_f hf c1
    refine j_aload_n C dX2_here_11 rfl ?_
    refine j_get (v := (ga (some (ad 8)))) C fl_X2_31_2 dX2_here_12 (tw_F hinj rfl) ?_
    refine j_aload_n C dX2_here_15 rfl ?_
    refine j_get (v := (gi (w0 0 12))) C fl_X2_45_2 dX2_here_16 (tw_F hinj rfl) ?_
    replace hf := gB1_e hf
    obtain ⟨x2, ex2, hf⟩ := hf
    refine j_iald C (tw_ld hinj ex2) dX2_here_19 ?_
    refine j_goto (tgt := 24) C dX2_here_20 (by decide) ?_
    obtain ⟨rfl, rfl⟩ := gSome hf
    exact j_iret C hr hw dX2_here_24
def dkwX2_beginsItem_1 : List UInt8 := [26, 16, 91, 159, 0, 9, 26, 16, 40, 160, 0, 7, 4, 167, 0, 4, 3, 172]
abbrev dktX2_beginsItem_1 : List UInt8 := dkwX2_beginsItem_1 ++ []
def dkwX2_beginsItem_0 : List UInt8 := [26, 16, 116, 159, 0, 33, 26, 16, 119, 159, 0, 27, 26, 16, 115, 159, 0, 21, 26, 16, 120, 159, 0, 15]
abbrev dktX2_beginsItem_0 : List UInt8 := dkwX2_beginsItem_0 ++ dktX2_beginsItem_1
theorem dksX2_beginsItem_0 : cX2_beginsItem.data.toList.drop 0 = dktX2_beginsItem_0 := by decide +kernel
theorem dksX2_beginsItem_1 : cX2_beginsItem.data.toList.drop 24 = dktX2_beginsItem_1 := dk_seg dksX2_beginsItem_0 24 rfl rfl
theorem dX2_beginsItem_0 : decode cX2_beginsItem 0 = .ok (.iload_n 0, 1) := dk_26 (dk_at dksX2_beginsItem_0 0 rfl rfl)
theorem dX2_beginsItem_1 : decode cX2_beginsItem 1 = .ok (.bipush 116, 2) := dk_16 116 (dk_at dksX2_beginsItem_0 1 rfl rfl)
theorem dX2_beginsItem_3 : decode cX2_beginsItem 3 = .ok (.if_icmp .eq 33, 3) := dk_159 0 33 (dk_at dksX2_beginsItem_0 3 rfl rfl)
theorem dX2_beginsItem_6 : decode cX2_beginsItem 6 = .ok (.iload_n 0, 1) := dk_26 (dk_at dksX2_beginsItem_0 6 rfl rfl)
theorem dX2_beginsItem_7 : decode cX2_beginsItem 7 = .ok (.bipush 119, 2) := dk_16 119 (dk_at dksX2_beginsItem_0 7 rfl rfl)
theorem dX2_beginsItem_9 : decode cX2_beginsItem 9 = .ok (.if_icmp .eq 27, 3) := dk_159 0 27 (dk_at dksX2_beginsItem_0 9 rfl rfl)
theorem dX2_beginsItem_12 : decode cX2_beginsItem 12 = .ok (.iload_n 0, 1) := dk_26 (dk_at dksX2_beginsItem_0 12 rfl rfl)
theorem dX2_beginsItem_13 : decode cX2_beginsItem 13 = .ok (.bipush 115, 2) := dk_16 115 (dk_at dksX2_beginsItem_0 13 rfl rfl)
theorem dX2_beginsItem_15 : decode cX2_beginsItem 15 = .ok (.if_icmp .eq 21, 3) := dk_159 0 21 (dk_at dksX2_beginsItem_0 15 rfl rfl)
theorem dX2_beginsItem_18 : decode cX2_beginsItem 18 = .ok (.iload_n 0, 1) := dk_26 (dk_at dksX2_beginsItem_0 18 rfl rfl)
theorem dX2_beginsItem_19 : decode cX2_beginsItem 19 = .ok (.bipush 120, 2) := dk_16 120 (dk_at dksX2_beginsItem_0 19 rfl rfl)
theorem dX2_beginsItem_21 : decode cX2_beginsItem 21 = .ok (.if_icmp .eq 15, 3) := dk_159 0 15 (dk_at dksX2_beginsItem_0 21 rfl rfl)
theorem dX2_beginsItem_24 : decode cX2_beginsItem 24 = .ok (.iload_n 0, 1) := dk_26 (dk_at dksX2_beginsItem_1 0 rfl rfl)
theorem dX2_beginsItem_25 : decode cX2_beginsItem 25 = .ok (.bipush 91, 2) := dk_16 91 (dk_at dksX2_beginsItem_1 1 rfl rfl)
theorem dX2_beginsItem_27 : decode cX2_beginsItem 27 = .ok (.if_icmp .eq 9, 3) := dk_159 0 9 (dk_at dksX2_beginsItem_1 3 rfl rfl)
theorem dX2_beginsItem_30 : decode cX2_beginsItem 30 = .ok (.iload_n 0, 1) := dk_26 (dk_at dksX2_beginsItem_1 6 rfl rfl)
theorem dX2_beginsItem_31 : decode cX2_beginsItem 31 = .ok (.bipush 40, 2) := dk_16 40 (dk_at dksX2_beginsItem_1 7 rfl rfl)
theorem dX2_beginsItem_33 : decode cX2_beginsItem 33 = .ok (.if_icmp .ne 7, 3) := dk_160 0 7 (dk_at dksX2_beginsItem_1 9 rfl rfl)
theorem dX2_beginsItem_36 : decode cX2_beginsItem 36 = .ok (.iconst 1, 1) := dk_4 (dk_at dksX2_beginsItem_1 12 rfl rfl)
theorem dX2_beginsItem_37 : decode cX2_beginsItem 37 = .ok (.goto 4, 3) := dk_167 0 4 (dk_at dksX2_beginsItem_1 13 rfl rfl)
theorem dX2_beginsItem_40 : decode cX2_beginsItem 40 = .ok (.iconst 0, 1) := dk_3 (dk_at dksX2_beginsItem_1 16 rfl rfl)
theorem dX2_beginsItem_41 : decode cX2_beginsItem 41 = .ok (.ireturn, 1) := dk_172 (dk_at dksX2_beginsItem_1 17 rfl rfl)
def t_X2_beginsItem (p0 : Int32) (w0 : TS) : Option (Int32 × TS) := gBd (fun (w2 : TS) => some ((nI 1), w2)) fun k1 => if p0 = (nI 116) then k1 w0 else if p0 = (nI 119) then k1 w0 else if p0 = (nI 115) then k1 w0 else if p0 = (nI 120) then k1 w0 else if p0 = (nI 91) then k1 w0 else if p0 = (nI 40) then k1 w0 else some ((nI 0), w0)
set_option maxHeartbeats 4000000 in
set_option maxRecDepth 100000 in
theorem kt_X2_beginsItem {D : va_G} {dA : Nat → ClassId} {A : Nat → Prop} {K : Nat → Nat} {l : Launch} {wb : gw} {ad : Nat → Nat} (hinj : tInj ad) {h : Nat} (hh : 0 ≤ h) {p0 : Int32} {w0 ww : TS} {rr : Int32} (hf : t_X2_beginsItem p0 w0 = some (rr, ww)) : gMet D dA A K l yX2_beginsItem (ws_ yX2_beginsItem cX2_beginsItem 1 (some .boolean)) h [(gi p0)] (some (gi rr)) (twOf wb ad w0) (twOf wb ad ww) := by
  refine j_start (own := RX2) (by decide +kernel) rfl (Nat.le_of_ble_eq_true rfl) ?_
  intro p e R s m args below meth c C hr hin hw
  unfold t_X2_beginsItem at hf
  show gJ D dA A K p l e R s m args below meth c (gEnd D dA A K below args s (twOf wb ad w0) (some (gi rr)) (twOf wb ad ww)) 1 0 [(0, (gi p0))] [] (twOf wb ad w0)
  refine j_iload_n C dX2_beginsItem_0 rfl ?_
  refine j_bipush (v := (nI 116)) C dX2_beginsItem_1 (by decide) ?_
  replace hf := gBd_x hf
  obtain ⟨k1, ek1, hf⟩ := hf
  have jk1 : ∀ (w2 : TS), k1 w2 = some (rr, ww) → gJ D dA A K p l e R s m args below meth c (gEnd D dA A K below args s (twOf wb ad w0) (some (gi rr)) (twOf wb ad ww)) 1 36 [] [] (twOf wb ad w2) := by
    intro w2 hf
    rw [ek1] at hf
    dsimp only at hf
    refine j_iconst (v := (nI 1)) C dX2_beginsItem_36 (by decide) ?_
    refine j_goto (tgt := 41) C dX2_beginsItem_37 (by decide) ?_
    obtain ⟨rfl, rfl⟩ := gSome hf
    exact j_zret C hr (by decide) hw dX2_beginsItem_41
  clear ek1
  refine j_icmp_eq (tgt := 36) C dX2_beginsItem_3 (by decide) (fun c3 => ?_) (fun c3 => ?_)
  · replace hf := gIf_t hf c3
    refine j_sub (lv' := []) (gL_nil) ?_
    exact jk1 _ hf
  · replace hf := gIf_f hf c3
    refine j_iload_n C dX2_beginsItem_6 rfl ?_
    refine j_bipush (v := (nI 119)) C dX2_beginsItem_7 (by decide) ?_
    refine j_icmp_eq (tgt := 36) C dX2_beginsItem_9 (by decide) (fun c4 => ?_) (fun c4 => ?_)
    · replace hf := gIf_t hf c4
      refine j_sub (lv' := []) (gL_nil) ?_
      exact jk1 _ hf
    · replace hf := gIf_f hf c4
      refine j_iload_n C dX2_beginsItem_12 rfl ?_
      refine j_bipush (v := (nI 115)) C dX2_beginsItem_13 (by decide) ?_
      refine j_icmp_eq (tgt := 36) C dX2_beginsItem_15 (by decide) (fun c5 => ?_) (fun c5 => ?_)
      · replace hf := gIf_t hf c5
        refine j_sub (lv' := []) (gL_nil) ?_
        exact jk1 _ hf
      · replace hf := gIf_f hf c5
        refine j_iload_n C dX2_beginsItem_18 rfl ?_
        refine j_bipush (v := (nI 120)) C dX2_beginsItem_19 (by decide) ?_
        refine j_icmp_eq (tgt := 36) C dX2_beginsItem_21 (by decide) (fun c6 => ?_) (fun c6 => ?_)
        · replace hf := gIf_t hf c6
          refine j_sub (lv' := []) (gL_nil) ?_
          exact jk1 _ hf
        · replace hf := gIf_f hf c6
          refine j_iload_n C dX2_beginsItem_24 rfl ?_
          refine j_bipush (v := (nI 91)) C dX2_beginsItem_25 (by decide) ?_
          refine j_icmp_eq (tgt := 36) C dX2_beginsItem_27 (by decide) (fun c7 => ?_) (fun c7 => ?_)
          · replace hf := gIf_t hf c7
            refine j_sub (lv' := []) (gL_nil) ?_
            exact jk1 _ hf
          · replace hf := gIf_f hf c7
            refine j_iload_n C dX2_beginsItem_30 rfl ?_
            refine j_bipush (v := (nI 40)) C dX2_beginsItem_31 (by decide) ?_
            refine j_icmp_ne (tgt := 40) C dX2_beginsItem_33 (by decide) (fun c8 => ?_) (fun c8 => ?_)
            · replace hf := gIf_f hf c8
              refine j_iconst (v := (nI 0)) C dX2_beginsItem_40 (by decide) ?_
              obtain ⟨rfl, rfl⟩ := gSome hf
              exact j_zret C hr (by decide) hw dX2_beginsItem_41
            · replace hf := gIf_t hf c8
              refine j_sub (lv' := []) (gL_nil) ?_
              exact jk1 _ hf
def dkwX2_isTooMuch_0 : List UInt8 := [42, 5, 181, 0, 78, 3, 172]
abbrev dktX2_isTooMuch_0 : List UInt8 := dkwX2_isTooMuch_0 ++ []
theorem dksX2_isTooMuch_0 : cX2_isTooMuch.data.toList.drop 0 = dktX2_isTooMuch_0 := by decide +kernel
theorem dX2_isTooMuch_0 : decode cX2_isTooMuch 0 = .ok (.aload_n 0, 1) := dk_42 (dk_at dksX2_isTooMuch_0 0 rfl rfl)
theorem dX2_isTooMuch_1 : decode cX2_isTooMuch 1 = .ok (.iconst 2, 1) := dk_5 (dk_at dksX2_isTooMuch_0 1 rfl rfl)
theorem dX2_isTooMuch_2 : decode cX2_isTooMuch 2 = .ok (.putfield 78, 3) := dk_181 0 78 (dk_at dksX2_isTooMuch_0 2 rfl rfl)
theorem dX2_isTooMuch_5 : decode cX2_isTooMuch 5 = .ok (.iconst 0, 1) := dk_3 (dk_at dksX2_isTooMuch_0 5 rfl rfl)
theorem dX2_isTooMuch_6 : decode cX2_isTooMuch 6 = .ok (.ireturn, 1) := dk_172 (dk_at dksX2_isTooMuch_0 6 rfl rfl)
theorem fl_X2_78_2 : gFL RX2 78 2 13 := gFL.mk (Cn := RX2) (T := TX2) (N := 21) (ref := "WorkflowEngineModel") rfl in_X2 (by decide) q1607 rfl rfl (Or.inl rfl)
theorem fk_2_13 : gFk 2 13 "I" false "WorkflowEngineModel" := fun Cn T N h => by
  have h : (RX2, TX2, 21) = (Cn, T, N) := Option.some.inj h
  cases h
  exact ⟨rfl, rfl, rfl⟩
def t_X2_isTooMuch  (w0 : TS) : Option (Int32 × TS) := gBd (tPut w0 13 (nI 2)) fun w1 => some ((nI 0), w1)
set_option maxHeartbeats 4000000 in
set_option maxRecDepth 100000 in
theorem kt_X2_isTooMuch {D : va_G} {dA : Nat → ClassId} {A : Nat → Prop} {K : Nat → Nat} {l : Launch} {wb : gw} {ad : Nat → Nat} (hinj : tInj ad) {h : Nat} (hh : 0 ≤ h)  {w0 ww : TS} {rr : Int32} (hf : t_X2_isTooMuch  w0 = some (rr, ww)) : gMet D dA A K l yX2_isTooMuch (ws_ yX2_isTooMuch cX2_isTooMuch 1 (some .boolean)) h [(ga (some (ad 0)))] (some (gi rr)) (twOf wb ad w0) (twOf wb ad ww) := by
  refine j_start (own := RX2) (by decide +kernel) rfl (Nat.le_of_ble_eq_true rfl) ?_
  intro p e R s m args below meth c C hr hin hw
  unfold t_X2_isTooMuch at hf
  show gJ D dA A K p l e R s m args below meth c (gEnd D dA A K below args s (twOf wb ad w0) (some (gi rr)) (twOf wb ad ww)) 1 0 [(0, (ga (some (ad 0))))] [] (twOf wb ad w0)
  refine j_aload_n C dX2_isTooMuch_0 rfl ?_
  refine j_iconst (v := (nI 2)) C dX2_isTooMuch_1 (by decide) ?_
  replace hf := gBd_x hf
  obtain ⟨w1, ew1, hf⟩ := hf
  refine j_put C fl_X2_78_2 tb_2 (tw_put hinj ew1 rfl (by decide)) fk_2_13 (fit_I (nI 2)) dX2_isTooMuch_2 ?_
  refine j_iconst (v := (nI 0)) C dX2_isTooMuch_5 (by decide) ?_
  obtain ⟨rfl, rfl⟩ := gSome hf
  exact j_zret C hr (by decide) hw dX2_isTooMuch_6
def dkwX2_takesCode_1 : List UInt8 := [181, 0, 52, 42, 89, 180, 0, 45, 4, 96, 181, 0, 45, 4, 172]
abbrev dktX2_takesCode_1 : List UInt8 := dkwX2_takesCode_1 ++ []
def dkwX2_takesCode_0 : List UInt8 := [42, 182, 0, 48, 16, 97, 16, 104, 184, 0, 38, 154, 0, 5, 3, 172, 42, 42, 182, 0, 48, 16, 97, 100]
abbrev dktX2_takesCode_0 : List UInt8 := dkwX2_takesCode_0 ++ dktX2_takesCode_1
theorem dksX2_takesCode_0 : cX2_takesCode.data.toList.drop 0 = dktX2_takesCode_0 := by decide +kernel
theorem dksX2_takesCode_1 : cX2_takesCode.data.toList.drop 24 = dktX2_takesCode_1 := dk_seg dksX2_takesCode_0 24 rfl rfl
theorem dX2_takesCode_0 : decode cX2_takesCode 0 = .ok (.aload_n 0, 1) := dk_42 (dk_at dksX2_takesCode_0 0 rfl rfl)
theorem dX2_takesCode_1 : decode cX2_takesCode 1 = .ok (.invokevirtual 48, 3) := dk_182 0 48 (dk_at dksX2_takesCode_0 1 rfl rfl)
theorem dX2_takesCode_4 : decode cX2_takesCode 4 = .ok (.bipush 97, 2) := dk_16 97 (dk_at dksX2_takesCode_0 4 rfl rfl)
theorem dX2_takesCode_6 : decode cX2_takesCode 6 = .ok (.bipush 104, 2) := dk_16 104 (dk_at dksX2_takesCode_0 6 rfl rfl)
theorem dX2_takesCode_8 : decode cX2_takesCode 8 = .ok (.invokestatic 38, 3) := dk_184 0 38 (dk_at dksX2_takesCode_0 8 rfl rfl)
theorem dX2_takesCode_11 : decode cX2_takesCode 11 = .ok (.ifCond .ne 5, 3) := dk_154 0 5 (dk_at dksX2_takesCode_0 11 rfl rfl)
theorem dX2_takesCode_14 : decode cX2_takesCode 14 = .ok (.iconst 0, 1) := dk_3 (dk_at dksX2_takesCode_0 14 rfl rfl)
theorem dX2_takesCode_15 : decode cX2_takesCode 15 = .ok (.ireturn, 1) := dk_172 (dk_at dksX2_takesCode_0 15 rfl rfl)
theorem dX2_takesCode_16 : decode cX2_takesCode 16 = .ok (.aload_n 0, 1) := dk_42 (dk_at dksX2_takesCode_0 16 rfl rfl)
theorem dX2_takesCode_17 : decode cX2_takesCode 17 = .ok (.aload_n 0, 1) := dk_42 (dk_at dksX2_takesCode_0 17 rfl rfl)
theorem dX2_takesCode_18 : decode cX2_takesCode 18 = .ok (.invokevirtual 48, 3) := dk_182 0 48 (dk_at dksX2_takesCode_0 18 rfl rfl)
theorem dX2_takesCode_21 : decode cX2_takesCode 21 = .ok (.bipush 97, 2) := dk_16 97 (dk_at dksX2_takesCode_0 21 rfl rfl)
theorem dX2_takesCode_23 : decode cX2_takesCode 23 = .ok (.isub, 1) := dk_100 (dk_at dksX2_takesCode_0 23 rfl rfl)
theorem dX2_takesCode_24 : decode cX2_takesCode 24 = .ok (.putfield 52, 3) := dk_181 0 52 (dk_at dksX2_takesCode_1 0 rfl rfl)
theorem dX2_takesCode_27 : decode cX2_takesCode 27 = .ok (.aload_n 0, 1) := dk_42 (dk_at dksX2_takesCode_1 3 rfl rfl)
theorem dX2_takesCode_28 : decode cX2_takesCode 28 = .ok (.dup, 1) := dk_89 (dk_at dksX2_takesCode_1 4 rfl rfl)
theorem dX2_takesCode_29 : decode cX2_takesCode 29 = .ok (.getfield 45, 3) := dk_180 0 45 (dk_at dksX2_takesCode_1 5 rfl rfl)
theorem dX2_takesCode_32 : decode cX2_takesCode 32 = .ok (.iconst 1, 1) := dk_4 (dk_at dksX2_takesCode_1 8 rfl rfl)
theorem dX2_takesCode_33 : decode cX2_takesCode 33 = .ok (.iadd, 1) := dk_96 (dk_at dksX2_takesCode_1 9 rfl rfl)
theorem dX2_takesCode_34 : decode cX2_takesCode 34 = .ok (.putfield 45, 3) := dk_181 0 45 (dk_at dksX2_takesCode_1 10 rfl rfl)
theorem dX2_takesCode_37 : decode cX2_takesCode 37 = .ok (.iconst 1, 1) := dk_4 (dk_at dksX2_takesCode_1 13 rfl rfl)
theorem dX2_takesCode_38 : decode cX2_takesCode 38 = .ok (.ireturn, 1) := dk_172 (dk_at dksX2_takesCode_1 14 rfl rfl)
theorem hd_X2_here : (yX2_here.cls ≠ "java/lang/invoke/MethodHandle" ∧ yX2_here.cls ≠ "java/lang/invoke/VarHandle" ∧ (parseMethodDescriptor yX2_here.desc).map (fun d => d.parameters.length) = some 0) := ⟨by decide +kernel, by decide +kernel, by decide +kernel⟩
theorem fl_X2_52_2 : gFL RX2 52 2 18 := gFL.mk (Cn := RX2) (T := TX2) (N := 21) (ref := "WorkflowEngineModel") rfl in_X2 (by decide) q1612 rfl rfl (Or.inl rfl)
theorem fk_2_18 : gFk 2 18 "I" false "WorkflowEngineModel" := fun Cn T N h => by
  have h : (RX2, TX2, 21) = (Cn, T, N) := Option.some.inj h
  cases h
  exact ⟨rfl, rfl, rfl⟩
theorem fk_2_12 : gFk 2 12 "I" false "WorkflowEngineModel" := fun Cn T N h => by
  have h : (RX2, TX2, 21) = (Cn, T, N) := Option.some.inj h
  cases h
  exact ⟨rfl, rfl, rfl⟩
def t_X2_takesCode  (w0 : TS) : Option (Int32 × TS) := gB2 (t_X2_here  w0) fun x2 w1 => gB2 (t_X2_isIn x2 (nI 97) (nI 104) w1) fun x4 w3 => if x4 = 0 then some ((nI 0), w3) else gB2 (t_X2_here  w3) fun x7 w6 => gBd (tPut w6 18 (x7 - (nI 97))) fun w8 => gBd (tPut w8 12 ((w8 0 12) + (nI 1))) fun w9 => some ((nI 1), w9)
set_option maxHeartbeats 4000000 in
set_option maxRecDepth 100000 in
theorem kt_X2_takesCode {D : va_G} {dA : Nat → ClassId} {A : Nat → Prop} {K : Nat → Nat} {l : Launch} {wb : gw} {ad : Nat → Nat} (hinj : tInj ad) {h : Nat} (hh : 1 ≤ h)  {w0 ww : TS} {rr : Int32} (hf : t_X2_takesCode  w0 = some (rr, ww)) : gMet D dA A K l yX2_takesCode (ws_ yX2_takesCode cX2_takesCode 1 (some .boolean)) h [(ga (some (ad 0)))] (some (gi rr)) (twOf wb ad w0) (twOf wb ad ww) := by
  refine j_start (own := RX2) (by decide +kernel) rfl (Nat.le_of_ble_eq_true rfl) ?_
  intro p e R s m args below meth c C hr hin hw
  unfold t_X2_takesCode at hf
  show gJ D dA A K p l e R s m args below meth c (gEnd D dA A K below args s (twOf wb ad w0) (some (gi rr)) (twOf wb ad ww)) 1 0 [(0, (ga (some (ad 0))))] [] (twOf wb ad w0)
  refine j_aload_n C dX2_takesCode_0 rfl ?_
  replace hf := gB2_e hf
  obtain ⟨x2, w1, ew1, hf⟩ := hf
  refine j_callV (As := []) (rest := []) (v := (some (gi x2))) C (by omega) (kt_X2_here hinj (by omega) ew1) (tw_cls hinj) rfl q1691 q1693 qs38 q93 q1694 ⟨rfl, hd_X2_here⟩ (by decide) rfl (Nat.le_of_ble_eq_true rfl) dX2_takesCode_1 ?_
  refine j_bipush (v := (nI 97)) C dX2_takesCode_4 (by decide) ?_
  refine j_bipush (v := (nI 104)) C dX2_takesCode_6 (by decide) ?_
  replace hf := gB2_e hf
  obtain ⟨x4, w3, ew3, hf⟩ := hf
  refine j_callS (As := [(gi x2), (gi (nI 97)), (gi (nI 104))]) (rest := []) (v := (some (gi x4))) C (by omega) (kt_X2_isIn hinj (by omega) ew3) q1662 q1663 q93 q1664 hd_X2_isIn (by decide) rfl (Nat.le_of_ble_eq_true rfl) dX2_takesCode_8 ?_
  refine j_if_ne (tgt := 16) C dX2_takesCode_11 (by decide) (fun c5 => ?_) (fun c5 => ?_)
  · replace hf := gIf_f hf c5
    refine j_aload_n C dX2_takesCode_16 rfl ?_
    refine j_aload_n C dX2_takesCode_17 rfl ?_
    replace hf := gB2_e hf
    obtain ⟨x7, w6, ew6, hf⟩ := hf
    refine j_callV (As := []) (rest := [(ga (some (ad 0)))]) (v := (some (gi x7))) C (by omega) (kt_X2_here hinj (by omega) ew6) (tw_cls hinj) rfl q1691 q1693 qs38 q93 q1694 ⟨rfl, hd_X2_here⟩ (by decide) rfl (Nat.le_of_ble_eq_true rfl) dX2_takesCode_18 ?_
    refine j_bipush (v := (nI 97)) C dX2_takesCode_21 (by decide) ?_
    refine j_isub C dX2_takesCode_23 ?_
    replace hf := gBd_x hf
    obtain ⟨w8, ew8, hf⟩ := hf
    refine j_put C fl_X2_52_2 tb_2 (tw_put hinj ew8 rfl (by decide)) fk_2_18 (fit_I (x7 - (nI 97))) dX2_takesCode_24 ?_
    refine j_aload_n C dX2_takesCode_27 rfl ?_
    refine j_dup C dX2_takesCode_28 ?_
    refine j_get (v := (gi (w8 0 12))) C fl_X2_45_2 dX2_takesCode_29 (tw_F hinj rfl) ?_
    refine j_iconst (v := (nI 1)) C dX2_takesCode_32 (by decide) ?_
    refine j_iadd C dX2_takesCode_33 ?_
    replace hf := gBd_x hf
    obtain ⟨w9, ew9, hf⟩ := hf
    refine j_put C fl_X2_45_2 tb_2 (tw_put hinj ew9 rfl (by decide)) fk_2_12 (fit_I ((w8 0 12) + (nI 1))) dX2_takesCode_34 ?_
    refine j_iconst (v := (nI 1)) C dX2_takesCode_37 (by decide) ?_
    obtain ⟨rfl, rfl⟩ := gSome hf
    exact j_zret C hr (by decide) hw dX2_takesCode_38
  · replace hf := gIf_t hf c5
    refine j_iconst (v := (nI 0)) C dX2_takesCode_14 (by decide) ?_
    obtain ⟨rfl, rfl⟩ := gSome hf
    exact j_zret C hr (by decide) hw dX2_takesCode_15
def dkwX2_takes_0 : List UInt8 := [42, 182, 0, 48, 27, 159, 0, 5, 3, 172, 42, 89, 180, 0, 45, 4, 96, 181, 0, 45, 4, 172]
abbrev dktX2_takes_0 : List UInt8 := dkwX2_takes_0 ++ []
theorem dksX2_takes_0 : cX2_takes.data.toList.drop 0 = dktX2_takes_0 := by decide +kernel
theorem dX2_takes_0 : decode cX2_takes 0 = .ok (.aload_n 0, 1) := dk_42 (dk_at dksX2_takes_0 0 rfl rfl)
theorem dX2_takes_1 : decode cX2_takes 1 = .ok (.invokevirtual 48, 3) := dk_182 0 48 (dk_at dksX2_takes_0 1 rfl rfl)
theorem dX2_takes_4 : decode cX2_takes 4 = .ok (.iload_n 1, 1) := dk_27 (dk_at dksX2_takes_0 4 rfl rfl)
theorem dX2_takes_5 : decode cX2_takes 5 = .ok (.if_icmp .eq 5, 3) := dk_159 0 5 (dk_at dksX2_takes_0 5 rfl rfl)
theorem dX2_takes_8 : decode cX2_takes 8 = .ok (.iconst 0, 1) := dk_3 (dk_at dksX2_takes_0 8 rfl rfl)
theorem dX2_takes_9 : decode cX2_takes 9 = .ok (.ireturn, 1) := dk_172 (dk_at dksX2_takes_0 9 rfl rfl)
theorem dX2_takes_10 : decode cX2_takes 10 = .ok (.aload_n 0, 1) := dk_42 (dk_at dksX2_takes_0 10 rfl rfl)
theorem dX2_takes_11 : decode cX2_takes 11 = .ok (.dup, 1) := dk_89 (dk_at dksX2_takes_0 11 rfl rfl)
theorem dX2_takes_12 : decode cX2_takes 12 = .ok (.getfield 45, 3) := dk_180 0 45 (dk_at dksX2_takes_0 12 rfl rfl)
theorem dX2_takes_15 : decode cX2_takes 15 = .ok (.iconst 1, 1) := dk_4 (dk_at dksX2_takes_0 15 rfl rfl)
theorem dX2_takes_16 : decode cX2_takes 16 = .ok (.iadd, 1) := dk_96 (dk_at dksX2_takes_0 16 rfl rfl)
theorem dX2_takes_17 : decode cX2_takes 17 = .ok (.putfield 45, 3) := dk_181 0 45 (dk_at dksX2_takes_0 17 rfl rfl)
theorem dX2_takes_20 : decode cX2_takes 20 = .ok (.iconst 1, 1) := dk_4 (dk_at dksX2_takes_0 20 rfl rfl)
theorem dX2_takes_21 : decode cX2_takes 21 = .ok (.ireturn, 1) := dk_172 (dk_at dksX2_takes_0 21 rfl rfl)
def t_X2_takes (p1 : Int32) (w0 : TS) : Option (Int32 × TS) := gB2 (t_X2_here  w0) fun x2 w1 => if x2 = p1 then gBd (tPut w1 12 ((w1 0 12) + (nI 1))) fun w4 => some ((nI 1), w4) else some ((nI 0), w1)
set_option maxHeartbeats 4000000 in
set_option maxRecDepth 100000 in
theorem kt_X2_takes {D : va_G} {dA : Nat → ClassId} {A : Nat → Prop} {K : Nat → Nat} {l : Launch} {wb : gw} {ad : Nat → Nat} (hinj : tInj ad) {h : Nat} (hh : 1 ≤ h) {p1 : Int32} {w0 ww : TS} {rr : Int32} (hf : t_X2_takes p1 w0 = some (rr, ww)) : gMet D dA A K l yX2_takes (ws_ yX2_takes cX2_takes 2 (some .boolean)) h [(ga (some (ad 0))), (gi p1)] (some (gi rr)) (twOf wb ad w0) (twOf wb ad ww) := by
  refine j_start (own := RX2) (by decide +kernel) rfl (Nat.le_of_ble_eq_true rfl) ?_
  intro p e R s m args below meth c C hr hin hw
  unfold t_X2_takes at hf
  show gJ D dA A K p l e R s m args below meth c (gEnd D dA A K below args s (twOf wb ad w0) (some (gi rr)) (twOf wb ad ww)) 2 0 [(0, (ga (some (ad 0)))), (1, (gi p1))] [] (twOf wb ad w0)
  refine j_aload_n C dX2_takes_0 rfl ?_
  replace hf := gB2_e hf
  obtain ⟨x2, w1, ew1, hf⟩ := hf
  refine j_callV (As := []) (rest := []) (v := (some (gi x2))) C (by omega) (kt_X2_here hinj (by omega) ew1) (tw_cls hinj) rfl q1691 q1693 qs38 q93 q1694 ⟨rfl, hd_X2_here⟩ (by decide) rfl (Nat.le_of_ble_eq_true rfl) dX2_takes_1 ?_
  refine j_iload_n C dX2_takes_4 rfl ?_
  refine j_icmp_eq (tgt := 10) C dX2_takes_5 (by decide) (fun c3 => ?_) (fun c3 => ?_)
  · replace hf := gIf_t hf c3
    refine j_aload_n C dX2_takes_10 rfl ?_
    refine j_dup C dX2_takes_11 ?_
    refine j_get (v := (gi (w1 0 12))) C fl_X2_45_2 dX2_takes_12 (tw_F hinj rfl) ?_
    refine j_iconst (v := (nI 1)) C dX2_takes_15 (by decide) ?_
    refine j_iadd C dX2_takes_16 ?_
    replace hf := gBd_x hf
    obtain ⟨w4, ew4, hf⟩ := hf
    refine j_put C fl_X2_45_2 tb_2 (tw_put hinj ew4 rfl (by decide)) fk_2_12 (fit_I ((w1 0 12) + (nI 1))) dX2_takes_17 ?_
    refine j_iconst (v := (nI 1)) C dX2_takes_20 (by decide) ?_
    obtain ⟨rfl, rfl⟩ := gSome hf
    exact j_zret C hr (by decide) hw dX2_takes_21
  · replace hf := gIf_f hf c3
    refine j_iconst (v := (nI 0)) C dX2_takes_8 (by decide) ?_
    obtain ⟨rfl, rfl⟩ := gSome hf
    exact j_zret C hr (by decide) hw dX2_takes_9
def dkwX2_takesDigit_1 : List UInt8 := [182, 0, 48, 16, 48, 100, 181, 0, 52, 42, 89, 180, 0, 45, 4, 96, 181, 0, 45, 4, 172]
abbrev dktX2_takesDigit_1 : List UInt8 := dkwX2_takesDigit_1 ++ []
def dkwX2_takesDigit_0 : List UInt8 := [42, 182, 0, 48, 16, 48, 27, 96, 16, 48, 28, 96, 184, 0, 38, 154, 0, 5, 3, 172, 42, 42]
abbrev dktX2_takesDigit_0 : List UInt8 := dkwX2_takesDigit_0 ++ dktX2_takesDigit_1
theorem dksX2_takesDigit_0 : cX2_takesDigit.data.toList.drop 0 = dktX2_takesDigit_0 := by decide +kernel
theorem dksX2_takesDigit_1 : cX2_takesDigit.data.toList.drop 22 = dktX2_takesDigit_1 := dk_seg dksX2_takesDigit_0 22 rfl rfl
theorem dX2_takesDigit_0 : decode cX2_takesDigit 0 = .ok (.aload_n 0, 1) := dk_42 (dk_at dksX2_takesDigit_0 0 rfl rfl)
theorem dX2_takesDigit_1 : decode cX2_takesDigit 1 = .ok (.invokevirtual 48, 3) := dk_182 0 48 (dk_at dksX2_takesDigit_0 1 rfl rfl)
theorem dX2_takesDigit_4 : decode cX2_takesDigit 4 = .ok (.bipush 48, 2) := dk_16 48 (dk_at dksX2_takesDigit_0 4 rfl rfl)
theorem dX2_takesDigit_6 : decode cX2_takesDigit 6 = .ok (.iload_n 1, 1) := dk_27 (dk_at dksX2_takesDigit_0 6 rfl rfl)
theorem dX2_takesDigit_7 : decode cX2_takesDigit 7 = .ok (.iadd, 1) := dk_96 (dk_at dksX2_takesDigit_0 7 rfl rfl)
theorem dX2_takesDigit_8 : decode cX2_takesDigit 8 = .ok (.bipush 48, 2) := dk_16 48 (dk_at dksX2_takesDigit_0 8 rfl rfl)
theorem dX2_takesDigit_10 : decode cX2_takesDigit 10 = .ok (.iload_n 2, 1) := dk_28 (dk_at dksX2_takesDigit_0 10 rfl rfl)
theorem dX2_takesDigit_11 : decode cX2_takesDigit 11 = .ok (.iadd, 1) := dk_96 (dk_at dksX2_takesDigit_0 11 rfl rfl)
theorem dX2_takesDigit_12 : decode cX2_takesDigit 12 = .ok (.invokestatic 38, 3) := dk_184 0 38 (dk_at dksX2_takesDigit_0 12 rfl rfl)
theorem dX2_takesDigit_15 : decode cX2_takesDigit 15 = .ok (.ifCond .ne 5, 3) := dk_154 0 5 (dk_at dksX2_takesDigit_0 15 rfl rfl)
theorem dX2_takesDigit_18 : decode cX2_takesDigit 18 = .ok (.iconst 0, 1) := dk_3 (dk_at dksX2_takesDigit_0 18 rfl rfl)
theorem dX2_takesDigit_19 : decode cX2_takesDigit 19 = .ok (.ireturn, 1) := dk_172 (dk_at dksX2_takesDigit_0 19 rfl rfl)
theorem dX2_takesDigit_20 : decode cX2_takesDigit 20 = .ok (.aload_n 0, 1) := dk_42 (dk_at dksX2_takesDigit_0 20 rfl rfl)
theorem dX2_takesDigit_21 : decode cX2_takesDigit 21 = .ok (.aload_n 0, 1) := dk_42 (dk_at dksX2_takesDigit_0 21 rfl rfl)
theorem dX2_takesDigit_22 : decode cX2_takesDigit 22 = .ok (.invokevirtual 48, 3) := dk_182 0 48 (dk_at dksX2_takesDigit_1 0 rfl rfl)
theorem dX2_takesDigit_25 : decode cX2_takesDigit 25 = .ok (.bipush 48, 2) := dk_16 48 (dk_at dksX2_takesDigit_1 3 rfl rfl)
theorem dX2_takesDigit_27 : decode cX2_takesDigit 27 = .ok (.isub, 1) := dk_100 (dk_at dksX2_takesDigit_1 5 rfl rfl)
theorem dX2_takesDigit_28 : decode cX2_takesDigit 28 = .ok (.putfield 52, 3) := dk_181 0 52 (dk_at dksX2_takesDigit_1 6 rfl rfl)
theorem dX2_takesDigit_31 : decode cX2_takesDigit 31 = .ok (.aload_n 0, 1) := dk_42 (dk_at dksX2_takesDigit_1 9 rfl rfl)
theorem dX2_takesDigit_32 : decode cX2_takesDigit 32 = .ok (.dup, 1) := dk_89 (dk_at dksX2_takesDigit_1 10 rfl rfl)
theorem dX2_takesDigit_33 : decode cX2_takesDigit 33 = .ok (.getfield 45, 3) := dk_180 0 45 (dk_at dksX2_takesDigit_1 11 rfl rfl)
theorem dX2_takesDigit_36 : decode cX2_takesDigit 36 = .ok (.iconst 1, 1) := dk_4 (dk_at dksX2_takesDigit_1 14 rfl rfl)
theorem dX2_takesDigit_37 : decode cX2_takesDigit 37 = .ok (.iadd, 1) := dk_96 (dk_at dksX2_takesDigit_1 15 rfl rfl)
theorem dX2_takesDigit_38 : decode cX2_takesDigit 38 = .ok (.putfield 45, 3) := dk_181 0 45 (dk_at dksX2_takesDigit_1 16 rfl rfl)
theorem dX2_takesDigit_41 : decode cX2_takesDigit 41 = .ok (.iconst 1, 1) := dk_4 (dk_at dksX2_takesDigit_1 19 rfl rfl)
theorem dX2_takesDigit_42 : decode cX2_takesDigit 42 = .ok (.ireturn, 1) := dk_172 (dk_at dksX2_takesDigit_1 20 rfl rfl)
def t_X2_takesDigit (p1 : Int32) (p2 : Int32) (w0 : TS) : Option (Int32 × TS) := gB2 (t_X2_here  w0) fun x2 w1 => gB2 (t_X2_isIn x2 ((nI 48) + p1) ((nI 48) + p2) w1) fun x4 w3 => if x4 = 0 then some ((nI 0), w3) else gB2 (t_X2_here  w3) fun x7 w6 => gBd (tPut w6 18 (x7 - (nI 48))) fun w8 => gBd (tPut w8 12 ((w8 0 12) + (nI 1))) fun w9 => some ((nI 1), w9)
set_option maxHeartbeats 4000000 in
set_option maxRecDepth 100000 in
theorem kt_X2_takesDigit {D : va_G} {dA : Nat → ClassId} {A : Nat → Prop} {K : Nat → Nat} {l : Launch} {wb : gw} {ad : Nat → Nat} (hinj : tInj ad) {h : Nat} (hh : 1 ≤ h) {p1 : Int32} {p2 : Int32} {w0 ww : TS} {rr : Int32} (hf : t_X2_takesDigit p1 p2 w0 = some (rr, ww)) : gMet D dA A K l yX2_takesDigit (ws_ yX2_takesDigit cX2_takesDigit 3 (some .boolean)) h [(ga (some (ad 0))), (gi p1), (gi p2)] (some (gi rr)) (twOf wb ad w0) (twOf wb ad ww) := by
  refine j_start (own := RX2) (by decide +kernel) rfl (Nat.le_of_ble_eq_true rfl) ?_
  intro p e R s m args below meth c C hr hin hw
  unfold t_X2_takesDigit at hf
  show gJ D dA A K p l e R s m args below meth c (gEnd D dA A K below args s (twOf wb ad w0) (some (gi rr)) (twOf wb ad ww)) 3 0 [(0, (ga (some (ad 0)))), (1, (gi p1)), (2, (gi p2))] [] (twOf wb ad w0)
  refine j_aload_n C dX2_takesDigit_0 rfl ?_
  replace hf := gB2_e hf
  obtain ⟨x2, w1, ew1, hf⟩ := hf
  refine j_callV (As := []) (rest := []) (v := (some (gi x2))) C (by omega) (kt_X2_here hinj (by omega) ew1) (tw_cls hinj) rfl q1691 q1693 qs38 q93 q1694 ⟨rfl, hd_X2_here⟩ (by decide) rfl (Nat.le_of_ble_eq_true rfl) dX2_takesDigit_1 ?_
  refine j_bipush (v := (nI 48)) C dX2_takesDigit_4 (by decide) ?_
  refine j_iload_n C dX2_takesDigit_6 rfl ?_
  refine j_iadd C dX2_takesDigit_7 ?_
  refine j_bipush (v := (nI 48)) C dX2_takesDigit_8 (by decide) ?_
  refine j_iload_n C dX2_takesDigit_10 rfl ?_
  refine j_iadd C dX2_takesDigit_11 ?_
  replace hf := gB2_e hf
  obtain ⟨x4, w3, ew3, hf⟩ := hf
  refine j_callS (As := [(gi x2), (gi ((nI 48) + p1)), (gi ((nI 48) + p2))]) (rest := []) (v := (some (gi x4))) C (by omega) (kt_X2_isIn hinj (by omega) ew3) q1662 q1663 q93 q1664 hd_X2_isIn (by decide) rfl (Nat.le_of_ble_eq_true rfl) dX2_takesDigit_12 ?_
  refine j_if_ne (tgt := 20) C dX2_takesDigit_15 (by decide) (fun c5 => ?_) (fun c5 => ?_)
  · replace hf := gIf_f hf c5
    refine j_aload_n C dX2_takesDigit_20 rfl ?_
    refine j_aload_n C dX2_takesDigit_21 rfl ?_
    replace hf := gB2_e hf
    obtain ⟨x7, w6, ew6, hf⟩ := hf
    refine j_callV (As := []) (rest := [(ga (some (ad 0)))]) (v := (some (gi x7))) C (by omega) (kt_X2_here hinj (by omega) ew6) (tw_cls hinj) rfl q1691 q1693 qs38 q93 q1694 ⟨rfl, hd_X2_here⟩ (by decide) rfl (Nat.le_of_ble_eq_true rfl) dX2_takesDigit_22 ?_
    refine j_bipush (v := (nI 48)) C dX2_takesDigit_25 (by decide) ?_
    refine j_isub C dX2_takesDigit_27 ?_
    replace hf := gBd_x hf
    obtain ⟨w8, ew8, hf⟩ := hf
    refine j_put C fl_X2_52_2 tb_2 (tw_put hinj ew8 rfl (by decide)) fk_2_18 (fit_I (x7 - (nI 48))) dX2_takesDigit_28 ?_
    refine j_aload_n C dX2_takesDigit_31 rfl ?_
    refine j_dup C dX2_takesDigit_32 ?_
    refine j_get (v := (gi (w8 0 12))) C fl_X2_45_2 dX2_takesDigit_33 (tw_F hinj rfl) ?_
    refine j_iconst (v := (nI 1)) C dX2_takesDigit_36 (by decide) ?_
    refine j_iadd C dX2_takesDigit_37 ?_
    replace hf := gBd_x hf
    obtain ⟨w9, ew9, hf⟩ := hf
    refine j_put C fl_X2_45_2 tb_2 (tw_put hinj ew9 rfl (by decide)) fk_2_12 (fit_I ((w8 0 12) + (nI 1))) dX2_takesDigit_38 ?_
    refine j_iconst (v := (nI 1)) C dX2_takesDigit_41 (by decide) ?_
    obtain ⟨rfl, rfl⟩ := gSome hf
    exact j_zret C hr (by decide) hw dX2_takesDigit_42
  · replace hf := gIf_t hf c5
    refine j_iconst (v := (nI 0)) C dX2_takesDigit_18 (by decide) ?_
    obtain ⟨rfl, rfl⟩ := gSome hf
    exact j_zret C hr (by decide) hw dX2_takesDigit_19
def dkwX2_takesNumber_3 : List UInt8 := [42, 27, 181, 0, 52, 4, 172]
abbrev dktX2_takesNumber_3 : List UInt8 := dkwX2_takesNumber_3 ++ []
def dkwX2_takesNumber_2 : List UInt8 := [182, 0, 48, 96, 16, 48, 100, 60, 42, 89, 180, 0, 45, 4, 96, 181, 0, 45, 132, 2, 1, 167, 255, 207]
abbrev dktX2_takesNumber_2 : List UInt8 := dkwX2_takesNumber_2 ++ dktX2_takesNumber_3
def dkwX2_takesNumber_1 : List UInt8 := [27, 158, 0, 46, 42, 182, 0, 48, 16, 48, 16, 57, 184, 0, 38, 153, 0, 32, 16, 10, 27, 104, 42]
abbrev dktX2_takesNumber_1 : List UInt8 := dkwX2_takesNumber_1 ++ dktX2_takesNumber_2
def dkwX2_takesNumber_0 : List UInt8 := [42, 3, 16, 9, 182, 0, 55, 154, 0, 5, 3, 172, 42, 180, 0, 52, 60, 4, 61, 28, 6, 162, 0, 50]
abbrev dktX2_takesNumber_0 : List UInt8 := dkwX2_takesNumber_0 ++ dktX2_takesNumber_1
theorem dksX2_takesNumber_0 : cX2_takesNumber.data.toList.drop 0 = dktX2_takesNumber_0 := by decide +kernel
theorem dksX2_takesNumber_1 : cX2_takesNumber.data.toList.drop 24 = dktX2_takesNumber_1 := dk_seg dksX2_takesNumber_0 24 rfl rfl
theorem dksX2_takesNumber_2 : cX2_takesNumber.data.toList.drop 47 = dktX2_takesNumber_2 := dk_seg dksX2_takesNumber_1 23 rfl rfl
theorem dksX2_takesNumber_3 : cX2_takesNumber.data.toList.drop 71 = dktX2_takesNumber_3 := dk_seg dksX2_takesNumber_2 24 rfl rfl
theorem dX2_takesNumber_0 : decode cX2_takesNumber 0 = .ok (.aload_n 0, 1) := dk_42 (dk_at dksX2_takesNumber_0 0 rfl rfl)
theorem dX2_takesNumber_1 : decode cX2_takesNumber 1 = .ok (.iconst 0, 1) := dk_3 (dk_at dksX2_takesNumber_0 1 rfl rfl)
theorem dX2_takesNumber_2 : decode cX2_takesNumber 2 = .ok (.bipush 9, 2) := dk_16 9 (dk_at dksX2_takesNumber_0 2 rfl rfl)
theorem dX2_takesNumber_4 : decode cX2_takesNumber 4 = .ok (.invokevirtual 55, 3) := dk_182 0 55 (dk_at dksX2_takesNumber_0 4 rfl rfl)
theorem dX2_takesNumber_7 : decode cX2_takesNumber 7 = .ok (.ifCond .ne 5, 3) := dk_154 0 5 (dk_at dksX2_takesNumber_0 7 rfl rfl)
theorem dX2_takesNumber_10 : decode cX2_takesNumber 10 = .ok (.iconst 0, 1) := dk_3 (dk_at dksX2_takesNumber_0 10 rfl rfl)
theorem dX2_takesNumber_11 : decode cX2_takesNumber 11 = .ok (.ireturn, 1) := dk_172 (dk_at dksX2_takesNumber_0 11 rfl rfl)
theorem dX2_takesNumber_12 : decode cX2_takesNumber 12 = .ok (.aload_n 0, 1) := dk_42 (dk_at dksX2_takesNumber_0 12 rfl rfl)
theorem dX2_takesNumber_13 : decode cX2_takesNumber 13 = .ok (.getfield 52, 3) := dk_180 0 52 (dk_at dksX2_takesNumber_0 13 rfl rfl)
theorem dX2_takesNumber_16 : decode cX2_takesNumber 16 = .ok (.istore_n 1, 1) := dk_60 (dk_at dksX2_takesNumber_0 16 rfl rfl)
theorem dX2_takesNumber_17 : decode cX2_takesNumber 17 = .ok (.iconst 1, 1) := dk_4 (dk_at dksX2_takesNumber_0 17 rfl rfl)
theorem dX2_takesNumber_18 : decode cX2_takesNumber 18 = .ok (.istore_n 2, 1) := dk_61 (dk_at dksX2_takesNumber_0 18 rfl rfl)
theorem dX2_takesNumber_19 : decode cX2_takesNumber 19 = .ok (.iload_n 2, 1) := dk_28 (dk_at dksX2_takesNumber_0 19 rfl rfl)
theorem dX2_takesNumber_20 : decode cX2_takesNumber 20 = .ok (.iconst 3, 1) := dk_6 (dk_at dksX2_takesNumber_0 20 rfl rfl)
theorem dX2_takesNumber_21 : decode cX2_takesNumber 21 = .ok (.if_icmp .ge 50, 3) := dk_162 0 50 (dk_at dksX2_takesNumber_0 21 rfl rfl)
theorem dX2_takesNumber_24 : decode cX2_takesNumber 24 = .ok (.iload_n 1, 1) := dk_27 (dk_at dksX2_takesNumber_1 0 rfl rfl)
theorem dX2_takesNumber_25 : decode cX2_takesNumber 25 = .ok (.ifCond .le 46, 3) := dk_158 0 46 (dk_at dksX2_takesNumber_1 1 rfl rfl)
theorem dX2_takesNumber_28 : decode cX2_takesNumber 28 = .ok (.aload_n 0, 1) := dk_42 (dk_at dksX2_takesNumber_1 4 rfl rfl)
theorem dX2_takesNumber_29 : decode cX2_takesNumber 29 = .ok (.invokevirtual 48, 3) := dk_182 0 48 (dk_at dksX2_takesNumber_1 5 rfl rfl)
theorem dX2_takesNumber_32 : decode cX2_takesNumber 32 = .ok (.bipush 48, 2) := dk_16 48 (dk_at dksX2_takesNumber_1 8 rfl rfl)
theorem dX2_takesNumber_34 : decode cX2_takesNumber 34 = .ok (.bipush 57, 2) := dk_16 57 (dk_at dksX2_takesNumber_1 10 rfl rfl)
theorem dX2_takesNumber_36 : decode cX2_takesNumber 36 = .ok (.invokestatic 38, 3) := dk_184 0 38 (dk_at dksX2_takesNumber_1 12 rfl rfl)
theorem dX2_takesNumber_39 : decode cX2_takesNumber 39 = .ok (.ifCond .eq 32, 3) := dk_153 0 32 (dk_at dksX2_takesNumber_1 15 rfl rfl)
theorem dX2_takesNumber_42 : decode cX2_takesNumber 42 = .ok (.bipush 10, 2) := dk_16 10 (dk_at dksX2_takesNumber_1 18 rfl rfl)
theorem dX2_takesNumber_44 : decode cX2_takesNumber 44 = .ok (.iload_n 1, 1) := dk_27 (dk_at dksX2_takesNumber_1 20 rfl rfl)
theorem dX2_takesNumber_45 : decode cX2_takesNumber 45 = .ok (.imul, 1) := dk_104 (dk_at dksX2_takesNumber_1 21 rfl rfl)
theorem dX2_takesNumber_46 : decode cX2_takesNumber 46 = .ok (.aload_n 0, 1) := dk_42 (dk_at dksX2_takesNumber_1 22 rfl rfl)
theorem dX2_takesNumber_47 : decode cX2_takesNumber 47 = .ok (.invokevirtual 48, 3) := dk_182 0 48 (dk_at dksX2_takesNumber_2 0 rfl rfl)
theorem dX2_takesNumber_50 : decode cX2_takesNumber 50 = .ok (.iadd, 1) := dk_96 (dk_at dksX2_takesNumber_2 3 rfl rfl)
theorem dX2_takesNumber_51 : decode cX2_takesNumber 51 = .ok (.bipush 48, 2) := dk_16 48 (dk_at dksX2_takesNumber_2 4 rfl rfl)
theorem dX2_takesNumber_53 : decode cX2_takesNumber 53 = .ok (.isub, 1) := dk_100 (dk_at dksX2_takesNumber_2 6 rfl rfl)
theorem dX2_takesNumber_54 : decode cX2_takesNumber 54 = .ok (.istore_n 1, 1) := dk_60 (dk_at dksX2_takesNumber_2 7 rfl rfl)
theorem dX2_takesNumber_55 : decode cX2_takesNumber 55 = .ok (.aload_n 0, 1) := dk_42 (dk_at dksX2_takesNumber_2 8 rfl rfl)
theorem dX2_takesNumber_56 : decode cX2_takesNumber 56 = .ok (.dup, 1) := dk_89 (dk_at dksX2_takesNumber_2 9 rfl rfl)
theorem dX2_takesNumber_57 : decode cX2_takesNumber 57 = .ok (.getfield 45, 3) := dk_180 0 45 (dk_at dksX2_takesNumber_2 10 rfl rfl)
theorem dX2_takesNumber_60 : decode cX2_takesNumber 60 = .ok (.iconst 1, 1) := dk_4 (dk_at dksX2_takesNumber_2 13 rfl rfl)
theorem dX2_takesNumber_61 : decode cX2_takesNumber 61 = .ok (.iadd, 1) := dk_96 (dk_at dksX2_takesNumber_2 14 rfl rfl)
theorem dX2_takesNumber_62 : decode cX2_takesNumber 62 = .ok (.putfield 45, 3) := dk_181 0 45 (dk_at dksX2_takesNumber_2 15 rfl rfl)
theorem dX2_takesNumber_65 : decode cX2_takesNumber 65 = .ok (.iinc 2 1, 3) := dk_132 2 1 (dk_at dksX2_takesNumber_2 18 rfl rfl)
theorem dX2_takesNumber_68 : decode cX2_takesNumber 68 = .ok (.goto (-49), 3) := dk_167 255 207 (dk_at dksX2_takesNumber_2 21 rfl rfl)
theorem dX2_takesNumber_71 : decode cX2_takesNumber 71 = .ok (.aload_n 0, 1) := dk_42 (dk_at dksX2_takesNumber_3 0 rfl rfl)
theorem dX2_takesNumber_72 : decode cX2_takesNumber 72 = .ok (.iload_n 1, 1) := dk_27 (dk_at dksX2_takesNumber_3 1 rfl rfl)
theorem dX2_takesNumber_73 : decode cX2_takesNumber 73 = .ok (.putfield 52, 3) := dk_181 0 52 (dk_at dksX2_takesNumber_3 2 rfl rfl)
theorem dX2_takesNumber_76 : decode cX2_takesNumber 76 = .ok (.iconst 1, 1) := dk_4 (dk_at dksX2_takesNumber_3 5 rfl rfl)
theorem dX2_takesNumber_77 : decode cX2_takesNumber 77 = .ok (.ireturn, 1) := dk_172 (dk_at dksX2_takesNumber_3 6 rfl rfl)
theorem hd_X2_takesDigit : (yX2_takesDigit.cls ≠ "java/lang/invoke/MethodHandle" ∧ yX2_takesDigit.cls ≠ "java/lang/invoke/VarHandle" ∧ (parseMethodDescriptor yX2_takesDigit.desc).map (fun d => d.parameters.length) = some 2) := ⟨by decide +kernel, by decide +kernel, by decide +kernel⟩
def t_X2_takesNumber  (w0 : TS) : Option (Int32 × TS) := gB2 (t_X2_takesDigit (nI 0) (nI 9) w0) fun x2 w1 => if x2 = 0 then some ((nI 0), w1) else gBd (w1 0 18) fun x4 => gL2 (fun k8 (x6 : Int32) (x7 : Int32) (w5 : TS) => gBd (fun (x11 : Int32) (w10 : TS) => gBd (tPut w10 18 x11) fun w12 => some ((nI 1), w12)) fun k9 => if (nI 3) ≤ x7 then k9 x6 w5 else if x6 ≤ 0 then k9 x6 w5 else gB2 (t_X2_here  w5) fun x16 w15 => gB2 (t_X2_isIn x16 (nI 48) (nI 57) w15) fun x18 w17 => if x18 = 0 then k9 x6 w17 else gB2 (t_X2_here  w17) fun x21 w20 => gBd ((((nI 10) * x6) + x21) - (nI 48)) fun x22 => gBd (tPut w20 12 ((w20 0 12) + (nI 1))) fun w23 => gBd (x7 + (nI 1)) fun x24 => k8 x22 x24 w23) 20000 x4 (nI 1) w1
set_option maxHeartbeats 4000000 in
set_option maxRecDepth 100000 in
theorem kt_X2_takesNumber {D : va_G} {dA : Nat → ClassId} {A : Nat → Prop} {K : Nat → Nat} {l : Launch} {wb : gw} {ad : Nat → Nat} (hinj : tInj ad) {h : Nat} (hh : 2 ≤ h)  {w0 ww : TS} {rr : Int32} (hf : t_X2_takesNumber  w0 = some (rr, ww)) : gMet D dA A K l yX2_takesNumber (ws_ yX2_takesNumber cX2_takesNumber 3 (some .boolean)) h [(ga (some (ad 0)))] (some (gi rr)) (twOf wb ad w0) (twOf wb ad ww) := by
  refine j_start (own := RX2) (by decide +kernel) rfl (Nat.le_of_ble_eq_true rfl) ?_
  intro p e R s m args below meth c C hr hin hw
  unfold t_X2_takesNumber at hf
  show gJ D dA A K p l e R s m args below meth c (gEnd D dA A K below args s (twOf wb ad w0) (some (gi rr)) (twOf wb ad ww)) 3 0 [(0, (ga (some (ad 0))))] [] (twOf wb ad w0)
  refine j_aload_n C dX2_takesNumber_0 rfl ?_
  refine j_iconst (v := (nI 0)) C dX2_takesNumber_1 (by decide) ?_
  refine j_bipush (v := (nI 9)) C dX2_takesNumber_2 (by decide) ?_
  replace hf := gB2_e hf
  obtain ⟨x2, w1, ew1, hf⟩ := hf
  refine j_callV (As := [(gi (nI 0)), (gi (nI 9))]) (rest := []) (v := (some (gi x2))) C (by omega) (kt_X2_takesDigit hinj (by omega) ew1) (tw_cls hinj) rfl q1714 q1716 qs43 q93 q1717 ⟨rfl, hd_X2_takesDigit⟩ (by decide) rfl (Nat.le_of_ble_eq_true rfl) dX2_takesNumber_4 ?_
  refine j_if_ne (tgt := 12) C dX2_takesNumber_7 (by decide) (fun c3 => ?_) (fun c3 => ?_)
  · replace hf := gIf_f hf c3
    refine j_aload_n C dX2_takesNumber_12 rfl ?_
    refine j_get (v := (gi (w1 0 18))) C fl_X2_52_2 dX2_takesNumber_13 (tw_F hinj rfl) ?_
    replace hf := gBd_x hf
    obtain ⟨x4, ex4, hf⟩ := hf
    refine j_nm ex4 ?_
    refine j_istore_n (lv' := [(1, (gi x4)), (0, (ga (some (ad 0))))]) C dX2_takesNumber_16 (by decide) rfl ?_
    refine j_iconst (v := (nI 1)) C dX2_takesNumber_17 (by decide) ?_
    refine j_istore_n (lv' := [(2, (gi (nI 1))), (1, (gi x4)), (0, (ga (some (ad 0))))]) C dX2_takesNumber_18 (by decide) rfl ?_
    refine j_sub (lv' := [(0, (ga (some (ad 0)))), (1, (gi x4)), (2, (gi (nI 1)))]) (gL_cons rfl (gL_cons rfl (gL_cons rfl (gL_nil)))) ?_
    refine gL2_e (fun (x6 : Int32) (x7 : Int32) (w5 : TS) => gJ D dA A K p l e R s m args below meth c (gEnd D dA A K below args s (twOf wb ad w0) (some (gi rr)) (twOf wb ad ww)) 3 19 [(0, (ga (some (ad 0)))), (1, (gi x6)), (2, (gi x7))] [] (twOf wb ad w5)) ?_ _ _ _ _ hf
    intro k8 jk8 x6 x7 w5 hf
    refine j_iload_n C dX2_takesNumber_19 rfl ?_
    refine j_iconst (v := (nI 3)) C dX2_takesNumber_20 (by decide) ?_
    replace hf := gBd_x hf
    obtain ⟨k9, ek9, hf⟩ := hf
    have jk9 : ∀ (x11 : Int32) (w10 : TS), k9 x11 w10 = some (rr, ww) → gJ D dA A K p l e R s m args below meth c (gEnd D dA A K below args s (twOf wb ad w0) (some (gi rr)) (twOf wb ad ww)) 3 71 [(0, (ga (some (ad 0)))), (1, (gi x11))] [] (twOf wb ad w10) := by
      intro x11 w10 hf
      rw [ek9] at hf
      dsimp only at hf
      refine j_aload_n C dX2_takesNumber_71 rfl ?_
      refine j_iload_n C dX2_takesNumber_72 rfl ?_
      replace hf := gBd_x hf
      obtain ⟨w12, ew12, hf⟩ := hf
      refine j_put C fl_X2_52_2 tb_2 (tw_put hinj ew12 rfl (by decide)) fk_2_18 (fit_I x11) dX2_takesNumber_73 ?_
      refine j_iconst (v := (nI 1)) C dX2_takesNumber_76 (by decide) ?_
      obtain ⟨rfl, rfl⟩ := gSome hf
      exact j_zret C hr (by decide) hw dX2_takesNumber_77
    clear ek9
    refine j_icmp_ge (tgt := 71) C dX2_takesNumber_21 (by decide) (fun c13 => ?_) (fun c13 => ?_)
    · replace hf := gIf_t hf c13
      refine j_sub (lv' := [(0, (ga (some (ad 0)))), (1, (gi x6))]) (gL_cons rfl (gL_cons rfl (gL_nil))) ?_
      exact jk9 _ _ hf
    · replace hf := gIf_f hf c13
      refine j_iload_n C dX2_takesNumber_24 rfl ?_
      refine j_if_le (tgt := 71) C dX2_takesNumber_25 (by decide) (fun c14 => ?_) (fun c14 => ?_)
      · replace hf := gIf_t hf c14
        refine j_sub (lv' := [(0, (ga (some (ad 0)))), (1, (gi x6))]) (gL_cons rfl (gL_cons rfl (gL_nil))) ?_
        exact jk9 _ _ hf
      · replace hf := gIf_f hf c14
        refine j_aload_n C dX2_takesNumber_28 rfl ?_
        replace hf := gB2_e hf
        obtain ⟨x16, w15, ew15, hf⟩ := hf
        refine j_callV (As := []) (rest := []) (v := (some (gi x16))) C (by omega) (kt_X2_here hinj (by omega) ew15) (tw_cls hinj) rfl q1691 q1693 qs38 q93 q1694 ⟨rfl, hd_X2_here⟩ (by decide) rfl (Nat.le_of_ble_eq_true rfl) dX2_takesNumber_29 ?_
        refine j_bipush (v := (nI 48)) C dX2_takesNumber_32 (by decide) ?_
        refine j_bipush (v := (nI 57)) C dX2_takesNumber_34 (by decide) ?_
        replace hf := gB2_e hf
        obtain ⟨x18, w17, ew17, hf⟩ := hf
        refine j_callS (As := [(gi x16), (gi (nI 48)), (gi (nI 57))]) (rest := []) (v := (some (gi x18))) C (by omega) (kt_X2_isIn hinj (by omega) ew17) q1662 q1663 q93 q1664 hd_X2_isIn (by decide) rfl (Nat.le_of_ble_eq_true rfl) dX2_takesNumber_36 ?_
        refine j_if_eq (tgt := 71) C dX2_takesNumber_39 (by decide) (fun c19 => ?_) (fun c19 => ?_)
        · replace hf := gIf_t hf c19
          refine j_sub (lv' := [(0, (ga (some (ad 0)))), (1, (gi x6))]) (gL_cons rfl (gL_cons rfl (gL_nil))) ?_
          exact jk9 _ _ hf
        · replace hf := gIf_f hf c19
          refine j_bipush (v := (nI 10)) C dX2_takesNumber_42 (by decide) ?_
          refine j_iload_n C dX2_takesNumber_44 rfl ?_
          refine j_imul C dX2_takesNumber_45 ?_
          refine j_aload_n C dX2_takesNumber_46 rfl ?_
          replace hf := gB2_e hf
          obtain ⟨x21, w20, ew20, hf⟩ := hf
          refine j_callV (As := []) (rest := [(gi ((nI 10) * x6))]) (v := (some (gi x21))) C (by omega) (kt_X2_here hinj (by omega) ew20) (tw_cls hinj) rfl q1691 q1693 qs38 q93 q1694 ⟨rfl, hd_X2_here⟩ (by decide) rfl (Nat.le_of_ble_eq_true rfl) dX2_takesNumber_47 ?_
          refine j_iadd C dX2_takesNumber_50 ?_
          refine j_bipush (v := (nI 48)) C dX2_takesNumber_51 (by decide) ?_
          refine j_isub C dX2_takesNumber_53 ?_
          replace hf := gBd_x hf
          obtain ⟨x22, ex22, hf⟩ := hf
          refine j_nm ex22 ?_
          refine j_istore_n (lv' := [(1, (gi x22)), (0, (ga (some (ad 0)))), (2, (gi x7))]) C dX2_takesNumber_54 (by decide) rfl ?_
          refine j_aload_n C dX2_takesNumber_55 rfl ?_
          refine j_dup C dX2_takesNumber_56 ?_
          refine j_get (v := (gi (w20 0 12))) C fl_X2_45_2 dX2_takesNumber_57 (tw_F hinj rfl) ?_
          refine j_iconst (v := (nI 1)) C dX2_takesNumber_60 (by decide) ?_
          refine j_iadd C dX2_takesNumber_61 ?_
          replace hf := gBd_x hf
          obtain ⟨w23, ew23, hf⟩ := hf
          refine j_put C fl_X2_45_2 tb_2 (tw_put hinj ew23 rfl (by decide)) fk_2_12 (fit_I ((w20 0 12) + (nI 1))) dX2_takesNumber_62 ?_
          replace hf := gBd_x hf
          obtain ⟨x24, ex24, hf⟩ := hf
          refine j_iinc (v := x24) (lv' := [(2, (gi x24)), (1, (gi x22)), (0, (ga (some (ad 0))))]) C dX2_takesNumber_65 rfl (by rw [ex24]; rfl) (by decide) rfl ?_
          refine j_goto (tgt := 19) C dX2_takesNumber_68 (by decide) ?_
          refine j_sub (lv' := [(0, (ga (some (ad 0)))), (1, (gi x22)), (2, (gi x24))]) (gL_cons rfl (gL_cons rfl (gL_cons rfl (gL_nil)))) ?_
          exact jk8 _ _ _ hf
  · replace hf := gIf_t hf c3
    refine j_iconst (v := (nI 0)) C dX2_takesNumber_10 (by decide) ?_
    obtain ⟨rfl, rfl⟩ := gSome hf
    exact j_zret C hr (by decide) hw dX2_takesNumber_11
def dkwX2_takesSigned_1 : List UInt8 := [180, 0, 52, 116, 167, 0, 7, 42, 180, 0, 52, 181, 0, 52, 4, 172]
abbrev dktX2_takesSigned_1 : List UInt8 := dkwX2_takesSigned_1 ++ []
def dkwX2_takesSigned_0 : List UInt8 := [42, 16, 45, 182, 0, 59, 60, 42, 182, 0, 63, 154, 0, 5, 3, 172, 42, 27, 153, 0, 11, 42]
abbrev dktX2_takesSigned_0 : List UInt8 := dkwX2_takesSigned_0 ++ dktX2_takesSigned_1
theorem dksX2_takesSigned_0 : cX2_takesSigned.data.toList.drop 0 = dktX2_takesSigned_0 := by decide +kernel
theorem dksX2_takesSigned_1 : cX2_takesSigned.data.toList.drop 22 = dktX2_takesSigned_1 := dk_seg dksX2_takesSigned_0 22 rfl rfl
theorem dX2_takesSigned_0 : decode cX2_takesSigned 0 = .ok (.aload_n 0, 1) := dk_42 (dk_at dksX2_takesSigned_0 0 rfl rfl)
theorem dX2_takesSigned_1 : decode cX2_takesSigned 1 = .ok (.bipush 45, 2) := dk_16 45 (dk_at dksX2_takesSigned_0 1 rfl rfl)
theorem dX2_takesSigned_3 : decode cX2_takesSigned 3 = .ok (.invokevirtual 59, 3) := dk_182 0 59 (dk_at dksX2_takesSigned_0 3 rfl rfl)
theorem dX2_takesSigned_6 : decode cX2_takesSigned 6 = .ok (.istore_n 1, 1) := dk_60 (dk_at dksX2_takesSigned_0 6 rfl rfl)
theorem dX2_takesSigned_7 : decode cX2_takesSigned 7 = .ok (.aload_n 0, 1) := dk_42 (dk_at dksX2_takesSigned_0 7 rfl rfl)
theorem dX2_takesSigned_8 : decode cX2_takesSigned 8 = .ok (.invokevirtual 63, 3) := dk_182 0 63 (dk_at dksX2_takesSigned_0 8 rfl rfl)
theorem dX2_takesSigned_11 : decode cX2_takesSigned 11 = .ok (.ifCond .ne 5, 3) := dk_154 0 5 (dk_at dksX2_takesSigned_0 11 rfl rfl)
theorem dX2_takesSigned_14 : decode cX2_takesSigned 14 = .ok (.iconst 0, 1) := dk_3 (dk_at dksX2_takesSigned_0 14 rfl rfl)
theorem dX2_takesSigned_15 : decode cX2_takesSigned 15 = .ok (.ireturn, 1) := dk_172 (dk_at dksX2_takesSigned_0 15 rfl rfl)
theorem dX2_takesSigned_16 : decode cX2_takesSigned 16 = .ok (.aload_n 0, 1) := dk_42 (dk_at dksX2_takesSigned_0 16 rfl rfl)
theorem dX2_takesSigned_17 : decode cX2_takesSigned 17 = .ok (.iload_n 1, 1) := dk_27 (dk_at dksX2_takesSigned_0 17 rfl rfl)
theorem dX2_takesSigned_18 : decode cX2_takesSigned 18 = .ok (.ifCond .eq 11, 3) := dk_153 0 11 (dk_at dksX2_takesSigned_0 18 rfl rfl)
theorem dX2_takesSigned_21 : decode cX2_takesSigned 21 = .ok (.aload_n 0, 1) := dk_42 (dk_at dksX2_takesSigned_0 21 rfl rfl)
theorem dX2_takesSigned_22 : decode cX2_takesSigned 22 = .ok (.getfield 52, 3) := dk_180 0 52 (dk_at dksX2_takesSigned_1 0 rfl rfl)
theorem dX2_takesSigned_25 : decode cX2_takesSigned 25 = .ok (.ineg, 1) := dk_116 (dk_at dksX2_takesSigned_1 3 rfl rfl)
theorem dX2_takesSigned_26 : decode cX2_takesSigned 26 = .ok (.goto 7, 3) := dk_167 0 7 (dk_at dksX2_takesSigned_1 4 rfl rfl)
theorem dX2_takesSigned_29 : decode cX2_takesSigned 29 = .ok (.aload_n 0, 1) := dk_42 (dk_at dksX2_takesSigned_1 7 rfl rfl)
theorem dX2_takesSigned_30 : decode cX2_takesSigned 30 = .ok (.getfield 52, 3) := dk_180 0 52 (dk_at dksX2_takesSigned_1 8 rfl rfl)
theorem dX2_takesSigned_33 : decode cX2_takesSigned 33 = .ok (.putfield 52, 3) := dk_181 0 52 (dk_at dksX2_takesSigned_1 11 rfl rfl)
theorem dX2_takesSigned_36 : decode cX2_takesSigned 36 = .ok (.iconst 1, 1) := dk_4 (dk_at dksX2_takesSigned_1 14 rfl rfl)
theorem dX2_takesSigned_37 : decode cX2_takesSigned 37 = .ok (.ireturn, 1) := dk_172 (dk_at dksX2_takesSigned_1 15 rfl rfl)
theorem hd_X2_takes : (yX2_takes.cls ≠ "java/lang/invoke/MethodHandle" ∧ yX2_takes.cls ≠ "java/lang/invoke/VarHandle" ∧ (parseMethodDescriptor yX2_takes.desc).map (fun d => d.parameters.length) = some 1) := ⟨by decide +kernel, by decide +kernel, by decide +kernel⟩
theorem hd_X2_takesNumber : (yX2_takesNumber.cls ≠ "java/lang/invoke/MethodHandle" ∧ yX2_takesNumber.cls ≠ "java/lang/invoke/VarHandle" ∧ (parseMethodDescriptor yX2_takesNumber.desc).map (fun d => d.parameters.length) = some 0) := ⟨by decide +kernel, by decide +kernel, by decide +kernel⟩
def t_X2_takesSigned  (w0 : TS) : Option (Int32 × TS) := gB2 (t_X2_takes (nI 45) w0) fun x2 w1 => gB2 (t_X2_takesNumber  w1) fun x4 w3 => if x4 = 0 then some ((nI 0), w3) else gBd (fun (x8 : Int32) (w7 : TS) => gBd (tPut w7 18 x8) fun w9 => some ((nI 1), w9)) fun k6 => if x2 = 0 then k6 (w3 0 18) w3 else k6 (-(w3 0 18)) w3
set_option maxHeartbeats 4000000 in
set_option maxRecDepth 100000 in
theorem kt_X2_takesSigned {D : va_G} {dA : Nat → ClassId} {A : Nat → Prop} {K : Nat → Nat} {l : Launch} {wb : gw} {ad : Nat → Nat} (hinj : tInj ad) {h : Nat} (hh : 3 ≤ h)  {w0 ww : TS} {rr : Int32} (hf : t_X2_takesSigned  w0 = some (rr, ww)) : gMet D dA A K l yX2_takesSigned (ws_ yX2_takesSigned cX2_takesSigned 2 (some .boolean)) h [(ga (some (ad 0)))] (some (gi rr)) (twOf wb ad w0) (twOf wb ad ww) := by
  refine j_start (own := RX2) (by decide +kernel) rfl (Nat.le_of_ble_eq_true rfl) ?_
  intro p e R s m args below meth c C hr hin hw
  unfold t_X2_takesSigned at hf
  show gJ D dA A K p l e R s m args below meth c (gEnd D dA A K below args s (twOf wb ad w0) (some (gi rr)) (twOf wb ad ww)) 2 0 [(0, (ga (some (ad 0))))] [] (twOf wb ad w0)
  refine j_aload_n C dX2_takesSigned_0 rfl ?_
  refine j_bipush (v := (nI 45)) C dX2_takesSigned_1 (by decide) ?_
  replace hf := gB2_e hf
  obtain ⟨x2, w1, ew1, hf⟩ := hf
  refine j_callV (As := [(gi (nI 45))]) (rest := []) (v := (some (gi x2))) C (by omega) (kt_X2_takes hinj (by omega) ew1) (tw_cls hinj) rfl q1710 q1712 qs42 q93 q1713 ⟨rfl, hd_X2_takes⟩ (by decide) rfl (Nat.le_of_ble_eq_true rfl) dX2_takesSigned_3 ?_
  refine j_istore_n (lv' := [(1, (gi x2)), (0, (ga (some (ad 0))))]) C dX2_takesSigned_6 (by decide) rfl ?_
  refine j_aload_n C dX2_takesSigned_7 rfl ?_
  replace hf := gB2_e hf
  obtain ⟨x4, w3, ew3, hf⟩ := hf
  refine j_callV (As := []) (rest := []) (v := (some (gi x4))) C (by omega) (kt_X2_takesNumber hinj (by omega) ew3) (tw_cls hinj) rfl q1718 q1720 qs44 q93 q1721 ⟨rfl, hd_X2_takesNumber⟩ (by decide) rfl (Nat.le_of_ble_eq_true rfl) dX2_takesSigned_8 ?_
  refine j_if_ne (tgt := 16) C dX2_takesSigned_11 (by decide) (fun c5 => ?_) (fun c5 => ?_)
  · replace hf := gIf_f hf c5
    refine j_aload_n C dX2_takesSigned_16 rfl ?_
    refine j_iload_n C dX2_takesSigned_17 rfl ?_
    replace hf := gBd_x hf
    obtain ⟨k6, ek6, hf⟩ := hf
    have jk6 : ∀ (x8 : Int32) (w7 : TS), k6 x8 w7 = some (rr, ww) → gJ D dA A K p l e R s m args below meth c (gEnd D dA A K below args s (twOf wb ad w0) (some (gi rr)) (twOf wb ad ww)) 2 33 [] [(gi x8), (ga (some (ad 0)))] (twOf wb ad w7) := by
      intro x8 w7 hf
      rw [ek6] at hf
      dsimp only at hf
      replace hf := gBd_x hf
      obtain ⟨w9, ew9, hf⟩ := hf
      refine j_put C fl_X2_52_2 tb_2 (tw_put hinj ew9 rfl (by decide)) fk_2_18 (fit_I x8) dX2_takesSigned_33 ?_
      refine j_iconst (v := (nI 1)) C dX2_takesSigned_36 (by decide) ?_
      obtain ⟨rfl, rfl⟩ := gSome hf
      exact j_zret C hr (by decide) hw dX2_takesSigned_37
    clear ek6
    refine j_if_eq (tgt := 29) C dX2_takesSigned_18 (by decide) (fun c10 => ?_) (fun c10 => ?_)
    · replace hf := gIf_t hf c10
      refine j_aload_n C dX2_takesSigned_29 rfl ?_
      refine j_get (v := (gi (w3 0 18))) C fl_X2_52_2 dX2_takesSigned_30 (tw_F hinj rfl) ?_
      refine j_sub (lv' := []) (gL_nil) ?_
      exact jk6 _ _ hf
    · replace hf := gIf_f hf c10
      refine j_aload_n C dX2_takesSigned_21 rfl ?_
      refine j_get (v := (gi (w3 0 18))) C fl_X2_52_2 dX2_takesSigned_22 (tw_F hinj rfl) ?_
      refine j_ineg C dX2_takesSigned_25 ?_
      refine j_goto (tgt := 33) C dX2_takesSigned_26 (by decide) ?_
      refine j_sub (lv' := []) (gL_nil) ?_
      exact jk6 _ _ hf
  · replace hf := gIf_t hf c5
    refine j_iconst (v := (nI 0)) C dX2_takesSigned_14 (by decide) ?_
    obtain ⟨rfl, rfl⟩ := gSome hf
    exact j_zret C hr (by decide) hw dX2_takesSigned_15
def dkwX2_opens_1 : List UInt8 := [181, 0, 124, 177]
abbrev dktX2_opens_1 : List UInt8 := dkwX2_opens_1 ++ []
def dkwX2_opens_0 : List UInt8 := [42, 89, 180, 0, 94, 4, 96, 181, 0, 94, 42, 42, 180, 0, 124, 42, 180, 0, 94, 184, 0, 127]
abbrev dktX2_opens_0 : List UInt8 := dkwX2_opens_0 ++ dktX2_opens_1
theorem dksX2_opens_0 : cX2_opens.data.toList.drop 0 = dktX2_opens_0 := by decide +kernel
theorem dksX2_opens_1 : cX2_opens.data.toList.drop 22 = dktX2_opens_1 := dk_seg dksX2_opens_0 22 rfl rfl
theorem dX2_opens_0 : decode cX2_opens 0 = .ok (.aload_n 0, 1) := dk_42 (dk_at dksX2_opens_0 0 rfl rfl)
theorem dX2_opens_1 : decode cX2_opens 1 = .ok (.dup, 1) := dk_89 (dk_at dksX2_opens_0 1 rfl rfl)
theorem dX2_opens_2 : decode cX2_opens 2 = .ok (.getfield 94, 3) := dk_180 0 94 (dk_at dksX2_opens_0 2 rfl rfl)
theorem dX2_opens_5 : decode cX2_opens 5 = .ok (.iconst 1, 1) := dk_4 (dk_at dksX2_opens_0 5 rfl rfl)
theorem dX2_opens_6 : decode cX2_opens 6 = .ok (.iadd, 1) := dk_96 (dk_at dksX2_opens_0 6 rfl rfl)
theorem dX2_opens_7 : decode cX2_opens 7 = .ok (.putfield 94, 3) := dk_181 0 94 (dk_at dksX2_opens_0 7 rfl rfl)
theorem dX2_opens_10 : decode cX2_opens 10 = .ok (.aload_n 0, 1) := dk_42 (dk_at dksX2_opens_0 10 rfl rfl)
theorem dX2_opens_11 : decode cX2_opens 11 = .ok (.aload_n 0, 1) := dk_42 (dk_at dksX2_opens_0 11 rfl rfl)
theorem dX2_opens_12 : decode cX2_opens 12 = .ok (.getfield 124, 3) := dk_180 0 124 (dk_at dksX2_opens_0 12 rfl rfl)
theorem dX2_opens_15 : decode cX2_opens 15 = .ok (.aload_n 0, 1) := dk_42 (dk_at dksX2_opens_0 15 rfl rfl)
theorem dX2_opens_16 : decode cX2_opens 16 = .ok (.getfield 94, 3) := dk_180 0 94 (dk_at dksX2_opens_0 16 rfl rfl)
theorem dX2_opens_19 : decode cX2_opens 19 = .ok (.invokestatic 127, 3) := dk_184 0 127 (dk_at dksX2_opens_0 19 rfl rfl)
theorem dX2_opens_22 : decode cX2_opens 22 = .ok (.putfield 124, 3) := dk_181 0 124 (dk_at dksX2_opens_1 0 rfl rfl)
theorem dX2_opens_25 : decode cX2_opens 25 = .ok (.return_, 1) := dk_177 (dk_at dksX2_opens_1 3 rfl rfl)
theorem fl_X2_94_2 : gFL RX2 94 2 16 := gFL.mk (Cn := RX2) (T := TX2) (N := 21) (ref := "WorkflowEngineModel") rfl in_X2 (by decide) q1610 rfl rfl (Or.inl rfl)
theorem fk_2_16 : gFk 2 16 "I" false "WorkflowEngineModel" := fun Cn T N h => by
  have h : (RX2, TX2, 21) = (Cn, T, N) := Option.some.inj h
  cases h
  exact ⟨rfl, rfl, rfl⟩
theorem fl_X2_124_2 : gFL RX2 124 2 17 := gFL.mk (Cn := RX2) (T := TX2) (N := 21) (ref := "WorkflowEngineModel") rfl in_X2 (by decide) q1611 rfl rfl (Or.inl rfl)
theorem fk_2_17 : gFk 2 17 "I" false "WorkflowEngineModel" := fun Cn T N h => by
  have h : (RX2, TX2, 21) = (Cn, T, N) := Option.some.inj h
  cases h
  exact ⟨rfl, rfl, rfl⟩
def t_X2_opens  (w0 : TS) : Option (Unit × TS) := gBd (tPut w0 16 ((w0 0 16) + (nI 1))) fun w1 => gB2 (t_J6_max (w1 0 17) (w1 0 16) w1) fun x3 w2 => gBd (tPut w2 17 x3) fun w4 => some ((), w4)
set_option maxHeartbeats 4000000 in
set_option maxRecDepth 100000 in
theorem kt_X2_opens {D : va_G} {dA : Nat → ClassId} {A : Nat → Prop} {K : Nat → Nat} {l : Launch} {wb : gw} {ad : Nat → Nat} (hinj : tInj ad) {h : Nat} (hh : 1 ≤ h)  {w0 ww : TS} {rr : Unit} (hf : t_X2_opens  w0 = some (rr, ww)) : gMet D dA A K l yX2_opens (ws_ yX2_opens cX2_opens 1 none) h [(ga (some (ad 0)))] none (twOf wb ad w0) (twOf wb ad ww) := by
  refine j_start (own := RX2) (by decide +kernel) rfl (Nat.le_of_ble_eq_true rfl) ?_
  intro p e R s m args below meth c C hr hin hw
  unfold t_X2_opens at hf
  show gJ D dA A K p l e R s m args below meth c (gEnd D dA A K below args s (twOf wb ad w0) none (twOf wb ad ww)) 1 0 [(0, (ga (some (ad 0))))] [] (twOf wb ad w0)
  refine j_aload_n C dX2_opens_0 rfl ?_
  refine j_dup C dX2_opens_1 ?_
  refine j_get (v := (gi (w0 0 16))) C fl_X2_94_2 dX2_opens_2 (tw_F hinj rfl) ?_
  refine j_iconst (v := (nI 1)) C dX2_opens_5 (by decide) ?_
  refine j_iadd C dX2_opens_6 ?_
  replace hf := gBd_x hf
  obtain ⟨w1, ew1, hf⟩ := hf
  refine j_put C fl_X2_94_2 tb_2 (tw_put hinj ew1 rfl (by decide)) fk_2_16 (fit_I ((w0 0 16) + (nI 1))) dX2_opens_7 ?_
  refine j_aload_n C dX2_opens_10 rfl ?_
  refine j_aload_n C dX2_opens_11 rfl ?_
  refine j_get (v := (gi (w1 0 17))) C fl_X2_124_2 dX2_opens_12 (tw_F hinj rfl) ?_
  refine j_aload_n C dX2_opens_15 rfl ?_
  refine j_get (v := (gi (w1 0 16))) C fl_X2_94_2 dX2_opens_16 (tw_F hinj rfl) ?_
  replace hf := gB2_e hf
  obtain ⟨x3, w2, ew2, hf⟩ := hf
  refine j_callS (As := [(gi (w1 0 17)), (gi (w1 0 16))]) (rest := [(ga (some (ad 0)))]) (v := (some (gi x3))) C (by omega) (kt_J6_max hinj (by omega) ew2) q1746 q501 q111 q502 hd_J6_max (by decide) rfl (Nat.le_of_ble_eq_true rfl) dX2_opens_19 ?_
  replace hf := gBd_x hf
  obtain ⟨w4, ew4, hf⟩ := hf
  refine j_put C fl_X2_124_2 tb_2 (tw_put hinj ew4 rfl (by decide)) fk_2_17 (fit_I x3) dX2_opens_22 ?_
  obtain ⟨rfl, rfl⟩ := gSome hf
  exact j_vret C hr hw dX2_opens_25
def dkwX2_wrong_1 : List UInt8 := [167, 0, 18, 27, 154, 0, 10, 42, 180, 0, 34, 167, 0, 7, 42, 180, 0, 141, 172]
abbrev dktX2_wrong_1 : List UInt8 := dkwX2_wrong_1 ++ []
def dkwX2_wrong_0 : List UInt8 := [27, 3, 4, 184, 0, 38, 154, 0, 7, 2, 167, 0, 30, 42, 180, 0, 34, 156, 0, 8, 16, 251]
abbrev dktX2_wrong_0 : List UInt8 := dkwX2_wrong_0 ++ dktX2_wrong_1
theorem dksX2_wrong_0 : cX2_wrong.data.toList.drop 0 = dktX2_wrong_0 := by decide +kernel
theorem dksX2_wrong_1 : cX2_wrong.data.toList.drop 22 = dktX2_wrong_1 := dk_seg dksX2_wrong_0 22 rfl rfl
theorem dX2_wrong_0 : decode cX2_wrong 0 = .ok (.iload_n 1, 1) := dk_27 (dk_at dksX2_wrong_0 0 rfl rfl)
theorem dX2_wrong_1 : decode cX2_wrong 1 = .ok (.iconst 0, 1) := dk_3 (dk_at dksX2_wrong_0 1 rfl rfl)
theorem dX2_wrong_2 : decode cX2_wrong 2 = .ok (.iconst 1, 1) := dk_4 (dk_at dksX2_wrong_0 2 rfl rfl)
theorem dX2_wrong_3 : decode cX2_wrong 3 = .ok (.invokestatic 38, 3) := dk_184 0 38 (dk_at dksX2_wrong_0 3 rfl rfl)
theorem dX2_wrong_6 : decode cX2_wrong 6 = .ok (.ifCond .ne 7, 3) := dk_154 0 7 (dk_at dksX2_wrong_0 6 rfl rfl)
theorem dX2_wrong_9 : decode cX2_wrong 9 = .ok (.iconst (-1), 1) := dk_2 (dk_at dksX2_wrong_0 9 rfl rfl)
theorem dX2_wrong_10 : decode cX2_wrong 10 = .ok (.goto 30, 3) := dk_167 0 30 (dk_at dksX2_wrong_0 10 rfl rfl)
theorem dX2_wrong_13 : decode cX2_wrong 13 = .ok (.aload_n 0, 1) := dk_42 (dk_at dksX2_wrong_0 13 rfl rfl)
theorem dX2_wrong_14 : decode cX2_wrong 14 = .ok (.getfield 34, 3) := dk_180 0 34 (dk_at dksX2_wrong_0 14 rfl rfl)
theorem dX2_wrong_17 : decode cX2_wrong 17 = .ok (.ifCond .ge 8, 3) := dk_156 0 8 (dk_at dksX2_wrong_0 17 rfl rfl)
theorem dX2_wrong_20 : decode cX2_wrong 20 = .ok (.bipush (-5), 2) := dk_16 251 (dk_at dksX2_wrong_0 20 rfl rfl)
theorem dX2_wrong_22 : decode cX2_wrong 22 = .ok (.goto 18, 3) := dk_167 0 18 (dk_at dksX2_wrong_1 0 rfl rfl)
theorem dX2_wrong_25 : decode cX2_wrong 25 = .ok (.iload_n 1, 1) := dk_27 (dk_at dksX2_wrong_1 3 rfl rfl)
theorem dX2_wrong_26 : decode cX2_wrong 26 = .ok (.ifCond .ne 10, 3) := dk_154 0 10 (dk_at dksX2_wrong_1 4 rfl rfl)
theorem dX2_wrong_29 : decode cX2_wrong 29 = .ok (.aload_n 0, 1) := dk_42 (dk_at dksX2_wrong_1 7 rfl rfl)
theorem dX2_wrong_30 : decode cX2_wrong 30 = .ok (.getfield 34, 3) := dk_180 0 34 (dk_at dksX2_wrong_1 8 rfl rfl)
theorem dX2_wrong_33 : decode cX2_wrong 33 = .ok (.goto 7, 3) := dk_167 0 7 (dk_at dksX2_wrong_1 11 rfl rfl)
theorem dX2_wrong_36 : decode cX2_wrong 36 = .ok (.aload_n 0, 1) := dk_42 (dk_at dksX2_wrong_1 14 rfl rfl)
theorem dX2_wrong_37 : decode cX2_wrong 37 = .ok (.getfield 141, 3) := dk_180 0 141 (dk_at dksX2_wrong_1 15 rfl rfl)
theorem dX2_wrong_40 : decode cX2_wrong 40 = .ok (.ireturn, 1) := dk_172 (dk_at dksX2_wrong_1 18 rfl rfl)
theorem fl_X2_141_2 : gFL RX2 141 2 11 := gFL.mk (Cn := RX2) (T := TX2) (N := 21) (ref := "WorkflowEngineModel") rfl in_X2 (by decide) q1605 rfl rfl (Or.inl rfl)
def t_X2_wrong (p1 : Int32) (w0 : TS) : Option (Int32 × TS) := gB2 (t_X2_isIn p1 (nI 0) (nI 1) w0) fun x2 w1 => if x2 = 0 then some ((-1), w1) else if 0 ≤ (w1 0 10) then if p1 = 0 then some ((w1 0 10), w1) else some ((w1 0 11), w1) else some ((-5), w1)
set_option maxHeartbeats 4000000 in
set_option maxRecDepth 100000 in
theorem kt_X2_wrong {D : va_G} {dA : Nat → ClassId} {A : Nat → Prop} {K : Nat → Nat} {l : Launch} {wb : gw} {ad : Nat → Nat} (hinj : tInj ad) {h : Nat} (hh : 1 ≤ h) {p1 : Int32} {w0 ww : TS} {rr : Int32} (hf : t_X2_wrong p1 w0 = some (rr, ww)) : gMet D dA A K l yX2_wrong (ws_ yX2_wrong cX2_wrong 2 (some .int)) h [(ga (some (ad 0))), (gi p1)] (some (gi rr)) (twOf wb ad w0) (twOf wb ad ww) := by
  refine j_start (own := RX2) (by decide +kernel) rfl (Nat.le_of_ble_eq_true rfl) ?_
  intro p e R s m args below meth c C hr hin hw
  unfold t_X2_wrong at hf
  show gJ D dA A K p l e R s m args below meth c (gEnd D dA A K below args s (twOf wb ad w0) (some (gi rr)) (twOf wb ad ww)) 2 0 [(0, (ga (some (ad 0)))), (1, (gi p1))] [] (twOf wb ad w0)
  refine j_iload_n C dX2_wrong_0 rfl ?_
  refine j_iconst (v := (nI 0)) C dX2_wrong_1 (by decide) ?_
  refine j_iconst (v := (nI 1)) C dX2_wrong_2 (by decide) ?_
  replace hf := gB2_e hf
  obtain ⟨x2, w1, ew1, hf⟩ := hf
  refine j_callS (As := [(gi p1), (gi (nI 0)), (gi (nI 1))]) (rest := []) (v := (some (gi x2))) C (by omega) (kt_X2_isIn hinj (by omega) ew1) q1662 q1663 q93 q1664 hd_X2_isIn (by decide) rfl (Nat.le_of_ble_eq_true rfl) dX2_wrong_3 ?_
  refine j_if_ne (tgt := 13) C dX2_wrong_6 (by decide) (fun c3 => ?_) (fun c3 => ?_)
  · replace hf := gIf_f hf c3
    refine j_aload_n C dX2_wrong_13 rfl ?_
    refine j_get (v := (gi (w1 0 10))) C fl_X2_34_2 dX2_wrong_14 (tw_F hinj rfl) ?_
    refine j_if_ge (tgt := 25) C dX2_wrong_17 (by decide) (fun c4 => ?_) (fun c4 => ?_)
    · replace hf := gIf_t hf c4
      refine j_iload_n C dX2_wrong_25 rfl ?_
      refine j_if_ne (tgt := 36) C dX2_wrong_26 (by decide) (fun c5 => ?_) (fun c5 => ?_)
      · replace hf := gIf_f hf c5
        refine j_aload_n C dX2_wrong_36 rfl ?_
        refine j_get (v := (gi (w1 0 11))) C fl_X2_141_2 dX2_wrong_37 (tw_F hinj rfl) ?_
        obtain ⟨rfl, rfl⟩ := gSome hf
        exact j_iret C hr hw dX2_wrong_40
      · replace hf := gIf_t hf c5
        refine j_aload_n C dX2_wrong_29 rfl ?_
        refine j_get (v := (gi (w1 0 10))) C fl_X2_34_2 dX2_wrong_30 (tw_F hinj rfl) ?_
        refine j_goto (tgt := 40) C dX2_wrong_33 (by decide) ?_
        obtain ⟨rfl, rfl⟩ := gSome hf
        exact j_iret C hr hw dX2_wrong_40
    · replace hf := gIf_f hf c4
      refine j_bipush (v := (-5)) C dX2_wrong_20 (by decide) ?_
      refine j_goto (tgt := 40) C dX2_wrong_22 (by decide) ?_
      obtain ⟨rfl, rfl⟩ := gSome hf
      exact j_iret C hr hw dX2_wrong_40
  · replace hf := gIf_t hf c3
    refine j_iconst (v := (-1)) C dX2_wrong_9 (by decide) ?_
    refine j_goto (tgt := 40) C dX2_wrong_10 (by decide) ?_
    obtain ⟨rfl, rfl⟩ := gSome hf
    exact j_iret C hr hw dX2_wrong_40
def dkwX2_kind_0 : List UInt8 := [42, 180, 0, 9, 27, 28, 3, 184, 0, 67, 46, 172]
abbrev dktX2_kind_0 : List UInt8 := dkwX2_kind_0 ++ []
theorem dksX2_kind_0 : cX2_kind.data.toList.drop 0 = dktX2_kind_0 := by decide +kernel
theorem dX2_kind_0 : decode cX2_kind 0 = .ok (.aload_n 0, 1) := dk_42 (dk_at dksX2_kind_0 0 rfl rfl)
theorem dX2_kind_1 : decode cX2_kind 1 = .ok (.getfield 9, 3) := dk_180 0 9 (dk_at dksX2_kind_0 1 rfl rfl)
theorem dX2_kind_4 : decode cX2_kind 4 = .ok (.iload_n 1, 1) := dk_27 (dk_at dksX2_kind_0 4 rfl rfl)
theorem dX2_kind_5 : decode cX2_kind 5 = .ok (.iload_n 2, 1) := dk_28 (dk_at dksX2_kind_0 5 rfl rfl)
theorem dX2_kind_6 : decode cX2_kind 6 = .ok (.iconst 0, 1) := dk_3 (dk_at dksX2_kind_0 6 rfl rfl)
theorem dX2_kind_7 : decode cX2_kind 7 = .ok (.invokestatic 67, 3) := dk_184 0 67 (dk_at dksX2_kind_0 7 rfl rfl)
theorem dX2_kind_10 : decode cX2_kind 10 = .ok (.iaload, 1) := dk_46 (dk_at dksX2_kind_0 10 rfl rfl)
theorem dX2_kind_11 : decode cX2_kind 11 = .ok (.ireturn, 1) := dk_172 (dk_at dksX2_kind_0 11 rfl rfl)
theorem hd_X2_part : (yX2_part.cls ≠ "java/lang/invoke/MethodHandle" ∧ yX2_part.cls ≠ "java/lang/invoke/VarHandle" ∧ (parseMethodDescriptor yX2_part.desc).map (fun d => d.parameters.length) = some 3) := ⟨by decide +kernel, by decide +kernel, by decide +kernel⟩
def t_X2_kind (p1 : Int32) (p2 : Int32) (w0 : TS) : Option (Int32 × TS) := gB2 (t_X2_part p1 p2 (nI 0) w0) fun x2 w1 => gB1 (tLd w1 1 x2) fun x3 => some (x3, w1)
set_option maxHeartbeats 4000000 in
set_option maxRecDepth 100000 in
theorem kt_X2_kind {D : va_G} {dA : Nat → ClassId} {A : Nat → Prop} {K : Nat → Nat} {l : Launch} {wb : gw} {ad : Nat → Nat} (hinj : tInj ad) {h : Nat} (hh : 1 ≤ h) {p1 : Int32} {p2 : Int32} {w0 ww : TS} {rr : Int32} (hf : t_X2_kind p1 p2 w0 = some (rr, ww)) : gMet D dA A K l yX2_kind (ws_ yX2_kind cX2_kind 3 (some .int)) h [(ga (some (ad 0))), (gi p1), (gi p2)] (some (gi rr)) (twOf wb ad w0) (twOf wb ad ww) := by
  refine j_start (own := RX2) (by decide +kernel) rfl (Nat.le_of_ble_eq_true rfl) ?_
  intro p e R s m args below meth c C hr hin hw
  unfold t_X2_kind at hf
  show gJ D dA A K p l e R s m args below meth c (gEnd D dA A K below args s (twOf wb ad w0) (some (gi rr)) (twOf wb ad ww)) 3 0 [(0, (ga (some (ad 0)))), (1, (gi p1)), (2, (gi p2))] [] (twOf wb ad w0)
  refine j_aload_n C dX2_kind_0 rfl ?_
  refine j_get (v := (ga (some (ad 1)))) C fl_X2_9_2 dX2_kind_1 (tw_F hinj rfl) ?_
  refine j_iload_n C dX2_kind_4 rfl ?_
  refine j_iload_n C dX2_kind_5 rfl ?_
  refine j_iconst (v := (nI 0)) C dX2_kind_6 (by decide) ?_
  replace hf := gB2_e hf
  obtain ⟨x2, w1, ew1, hf⟩ := hf
  refine j_callS (As := [(gi p1), (gi p2), (gi (nI 0))]) (rest := [(ga (some (ad 1)))]) (v := (some (gi x2))) C (by omega) (kt_X2_part hinj (by omega) ew1) q1684 q1685 q93 q1686 hd_X2_part (by decide) rfl (Nat.le_of_ble_eq_true rfl) dX2_kind_7 ?_
  replace hf := gB1_e hf
  obtain ⟨x3, ex3, hf⟩ := hf
  refine j_iald C (tw_ld hinj ex3) dX2_kind_10 ?_
  obtain ⟨rfl, rfl⟩ := gSome hf
  exact j_iret C hr hw dX2_kind_11
def dkwX2_child_0 : List UInt8 := [42, 180, 0, 9, 27, 28, 8, 184, 0, 67, 46, 172]
abbrev dktX2_child_0 : List UInt8 := dkwX2_child_0 ++ []
theorem dksX2_child_0 : cX2_child.data.toList.drop 0 = dktX2_child_0 := by decide +kernel
theorem dX2_child_0 : decode cX2_child 0 = .ok (.aload_n 0, 1) := dk_42 (dk_at dksX2_child_0 0 rfl rfl)
theorem dX2_child_1 : decode cX2_child 1 = .ok (.getfield 9, 3) := dk_180 0 9 (dk_at dksX2_child_0 1 rfl rfl)
theorem dX2_child_4 : decode cX2_child 4 = .ok (.iload_n 1, 1) := dk_27 (dk_at dksX2_child_0 4 rfl rfl)
theorem dX2_child_5 : decode cX2_child 5 = .ok (.iload_n 2, 1) := dk_28 (dk_at dksX2_child_0 5 rfl rfl)
theorem dX2_child_6 : decode cX2_child 6 = .ok (.iconst 5, 1) := dk_8 (dk_at dksX2_child_0 6 rfl rfl)
theorem dX2_child_7 : decode cX2_child 7 = .ok (.invokestatic 67, 3) := dk_184 0 67 (dk_at dksX2_child_0 7 rfl rfl)
theorem dX2_child_10 : decode cX2_child 10 = .ok (.iaload, 1) := dk_46 (dk_at dksX2_child_0 10 rfl rfl)
theorem dX2_child_11 : decode cX2_child 11 = .ok (.ireturn, 1) := dk_172 (dk_at dksX2_child_0 11 rfl rfl)
def t_X2_child (p1 : Int32) (p2 : Int32) (w0 : TS) : Option (Int32 × TS) := gB2 (t_X2_part p1 p2 (nI 5) w0) fun x2 w1 => gB1 (tLd w1 1 x2) fun x3 => some (x3, w1)
set_option maxHeartbeats 4000000 in
set_option maxRecDepth 100000 in
theorem kt_X2_child {D : va_G} {dA : Nat → ClassId} {A : Nat → Prop} {K : Nat → Nat} {l : Launch} {wb : gw} {ad : Nat → Nat} (hinj : tInj ad) {h : Nat} (hh : 1 ≤ h) {p1 : Int32} {p2 : Int32} {w0 ww : TS} {rr : Int32} (hf : t_X2_child p1 p2 w0 = some (rr, ww)) : gMet D dA A K l yX2_child (ws_ yX2_child cX2_child 3 (some .int)) h [(ga (some (ad 0))), (gi p1), (gi p2)] (some (gi rr)) (twOf wb ad w0) (twOf wb ad ww) := by
  refine j_start (own := RX2) (by decide +kernel) rfl (Nat.le_of_ble_eq_true rfl) ?_
  intro p e R s m args below meth c C hr hin hw
  unfold t_X2_child at hf
  show gJ D dA A K p l e R s m args below meth c (gEnd D dA A K below args s (twOf wb ad w0) (some (gi rr)) (twOf wb ad ww)) 3 0 [(0, (ga (some (ad 0)))), (1, (gi p1)), (2, (gi p2))] [] (twOf wb ad w0)
  refine j_aload_n C dX2_child_0 rfl ?_
  refine j_get (v := (ga (some (ad 1)))) C fl_X2_9_2 dX2_child_1 (tw_F hinj rfl) ?_
  refine j_iload_n C dX2_child_4 rfl ?_
  refine j_iload_n C dX2_child_5 rfl ?_
  refine j_iconst (v := (nI 5)) C dX2_child_6 (by decide) ?_
  replace hf := gB2_e hf
  obtain ⟨x2, w1, ew1, hf⟩ := hf
  refine j_callS (As := [(gi p1), (gi p2), (gi (nI 5))]) (rest := [(ga (some (ad 1)))]) (v := (some (gi x2))) C (by omega) (kt_X2_part hinj (by omega) ew1) q1684 q1685 q93 q1686 hd_X2_part (by decide) rfl (Nat.le_of_ble_eq_true rfl) dX2_child_7 ?_
  replace hf := gB1_e hf
  obtain ⟨x3, ex3, hf⟩ := hf
  refine j_iald C (tw_ld hinj ex3) dX2_child_10 ?_
  obtain ⟨rfl, rfl⟩ := gSome hf
  exact j_iret C hr hw dX2_child_11
def dkwX2_next_0 : List UInt8 := [42, 180, 0, 9, 27, 28, 16, 6, 184, 0, 67, 46, 172]
abbrev dktX2_next_0 : List UInt8 := dkwX2_next_0 ++ []
theorem dksX2_next_0 : cX2_next.data.toList.drop 0 = dktX2_next_0 := by decide +kernel
theorem dX2_next_0 : decode cX2_next 0 = .ok (.aload_n 0, 1) := dk_42 (dk_at dksX2_next_0 0 rfl rfl)
theorem dX2_next_1 : decode cX2_next 1 = .ok (.getfield 9, 3) := dk_180 0 9 (dk_at dksX2_next_0 1 rfl rfl)
theorem dX2_next_4 : decode cX2_next 4 = .ok (.iload_n 1, 1) := dk_27 (dk_at dksX2_next_0 4 rfl rfl)
theorem dX2_next_5 : decode cX2_next 5 = .ok (.iload_n 2, 1) := dk_28 (dk_at dksX2_next_0 5 rfl rfl)
theorem dX2_next_6 : decode cX2_next 6 = .ok (.bipush 6, 2) := dk_16 6 (dk_at dksX2_next_0 6 rfl rfl)
theorem dX2_next_8 : decode cX2_next 8 = .ok (.invokestatic 67, 3) := dk_184 0 67 (dk_at dksX2_next_0 8 rfl rfl)
theorem dX2_next_11 : decode cX2_next 11 = .ok (.iaload, 1) := dk_46 (dk_at dksX2_next_0 11 rfl rfl)
theorem dX2_next_12 : decode cX2_next 12 = .ok (.ireturn, 1) := dk_172 (dk_at dksX2_next_0 12 rfl rfl)
def t_X2_next (p1 : Int32) (p2 : Int32) (w0 : TS) : Option (Int32 × TS) := gB2 (t_X2_part p1 p2 (nI 6) w0) fun x2 w1 => gB1 (tLd w1 1 x2) fun x3 => some (x3, w1)
set_option maxHeartbeats 4000000 in
set_option maxRecDepth 100000 in
theorem kt_X2_next {D : va_G} {dA : Nat → ClassId} {A : Nat → Prop} {K : Nat → Nat} {l : Launch} {wb : gw} {ad : Nat → Nat} (hinj : tInj ad) {h : Nat} (hh : 1 ≤ h) {p1 : Int32} {p2 : Int32} {w0 ww : TS} {rr : Int32} (hf : t_X2_next p1 p2 w0 = some (rr, ww)) : gMet D dA A K l yX2_next (ws_ yX2_next cX2_next 3 (some .int)) h [(ga (some (ad 0))), (gi p1), (gi p2)] (some (gi rr)) (twOf wb ad w0) (twOf wb ad ww) := by
  refine j_start (own := RX2) (by decide +kernel) rfl (Nat.le_of_ble_eq_true rfl) ?_
  intro p e R s m args below meth c C hr hin hw
  unfold t_X2_next at hf
  show gJ D dA A K p l e R s m args below meth c (gEnd D dA A K below args s (twOf wb ad w0) (some (gi rr)) (twOf wb ad ww)) 3 0 [(0, (ga (some (ad 0)))), (1, (gi p1)), (2, (gi p2))] [] (twOf wb ad w0)
  refine j_aload_n C dX2_next_0 rfl ?_
  refine j_get (v := (ga (some (ad 1)))) C fl_X2_9_2 dX2_next_1 (tw_F hinj rfl) ?_
  refine j_iload_n C dX2_next_4 rfl ?_
  refine j_iload_n C dX2_next_5 rfl ?_
  refine j_bipush (v := (nI 6)) C dX2_next_6 (by decide) ?_
  replace hf := gB2_e hf
  obtain ⟨x2, w1, ew1, hf⟩ := hf
  refine j_callS (As := [(gi p1), (gi p2), (gi (nI 6))]) (rest := [(ga (some (ad 1)))]) (v := (some (gi x2))) C (by omega) (kt_X2_part hinj (by omega) ew1) q1684 q1685 q93 q1686 hd_X2_part (by decide) rfl (Nat.le_of_ble_eq_true rfl) dX2_next_8 ?_
  replace hf := gB1_e hf
  obtain ⟨x3, ex3, hf⟩ := hf
  refine j_iald C (tw_ld hinj ex3) dX2_next_11 ?_
  obtain ⟨rfl, rfl⟩ := gSome hf
  exact j_iret C hr hw dX2_next_12
def dkwX2_isCode_0 : List UInt8 := [26, 3, 16, 7, 184, 0, 38, 172]
abbrev dktX2_isCode_0 : List UInt8 := dkwX2_isCode_0 ++ []
theorem dksX2_isCode_0 : cX2_isCode.data.toList.drop 0 = dktX2_isCode_0 := by decide +kernel
theorem dX2_isCode_0 : decode cX2_isCode 0 = .ok (.iload_n 0, 1) := dk_26 (dk_at dksX2_isCode_0 0 rfl rfl)
theorem dX2_isCode_1 : decode cX2_isCode 1 = .ok (.iconst 0, 1) := dk_3 (dk_at dksX2_isCode_0 1 rfl rfl)
theorem dX2_isCode_2 : decode cX2_isCode 2 = .ok (.bipush 7, 2) := dk_16 7 (dk_at dksX2_isCode_0 2 rfl rfl)
theorem dX2_isCode_4 : decode cX2_isCode 4 = .ok (.invokestatic 38, 3) := dk_184 0 38 (dk_at dksX2_isCode_0 4 rfl rfl)
theorem dX2_isCode_7 : decode cX2_isCode 7 = .ok (.ireturn, 1) := dk_172 (dk_at dksX2_isCode_0 7 rfl rfl)
def t_X2_isCode (p0 : Int32) (w0 : TS) : Option (Int32 × TS) := gB2 (t_X2_isIn p0 (nI 0) (nI 7) w0) fun x2 w1 => gB1 (gZ x2) fun _ => some (x2, w1)
set_option maxHeartbeats 4000000 in
set_option maxRecDepth 100000 in
theorem kt_X2_isCode {D : va_G} {dA : Nat → ClassId} {A : Nat → Prop} {K : Nat → Nat} {l : Launch} {wb : gw} {ad : Nat → Nat} (hinj : tInj ad) {h : Nat} (hh : 1 ≤ h) {p0 : Int32} {w0 ww : TS} {rr : Int32} (hf : t_X2_isCode p0 w0 = some (rr, ww)) : gMet D dA A K l yX2_isCode (ws_ yX2_isCode cX2_isCode 1 (some .boolean)) h [(gi p0)] (some (gi rr)) (twOf wb ad w0) (twOf wb ad ww) := by
  refine j_start (own := RX2) (by decide +kernel) rfl (Nat.le_of_ble_eq_true rfl) ?_
  intro p e R s m args below meth c C hr hin hw
  unfold t_X2_isCode at hf
  show gJ D dA A K p l e R s m args below meth c (gEnd D dA A K below args s (twOf wb ad w0) (some (gi rr)) (twOf wb ad ww)) 1 0 [(0, (gi p0))] [] (twOf wb ad w0)
  refine j_iload_n C dX2_isCode_0 rfl ?_
  refine j_iconst (v := (nI 0)) C dX2_isCode_1 (by decide) ?_
  refine j_bipush (v := (nI 7)) C dX2_isCode_2 (by decide) ?_
  replace hf := gB2_e hf
  obtain ⟨x2, w1, ew1, hf⟩ := hf
  refine j_callS (As := [(gi p0), (gi (nI 0)), (gi (nI 7))]) (rest := []) (v := (some (gi x2))) C (by omega) (kt_X2_isIn hinj (by omega) ew1) q1662 q1663 q93 q1664 hd_X2_isIn (by decide) rfl (Nat.le_of_ble_eq_true rfl) dX2_isCode_4 ?_
  replace hf := gB1_e hf
  obtain ⟨_, ez, hf⟩ := hf
  obtain ⟨rfl, rfl⟩ := gSome hf
  exact j_zret C hr (gZ_n (gZ_e ez)) hw dX2_isCode_7
def dkwX2_failures_1 : List UInt8 := [180, 0, 22, 16, 9, 27, 96, 46, 62, 42, 180, 0, 22, 16, 9, 27, 96, 28, 79, 29, 172]
abbrev dktX2_failures_1 : List UInt8 := dkwX2_failures_1 ++ []
def dkwX2_failures_0 : List UInt8 := [27, 184, 0, 160, 154, 0, 5, 2, 172, 28, 3, 16, 99, 184, 0, 38, 154, 0, 6, 16, 254, 172, 42]
abbrev dktX2_failures_0 : List UInt8 := dkwX2_failures_0 ++ dktX2_failures_1
theorem dksX2_failures_0 : cX2_failures.data.toList.drop 0 = dktX2_failures_0 := by decide +kernel
theorem dksX2_failures_1 : cX2_failures.data.toList.drop 23 = dktX2_failures_1 := dk_seg dksX2_failures_0 23 rfl rfl
theorem dX2_failures_0 : decode cX2_failures 0 = .ok (.iload_n 1, 1) := dk_27 (dk_at dksX2_failures_0 0 rfl rfl)
theorem dX2_failures_1 : decode cX2_failures 1 = .ok (.invokestatic 160, 3) := dk_184 0 160 (dk_at dksX2_failures_0 1 rfl rfl)
theorem dX2_failures_4 : decode cX2_failures 4 = .ok (.ifCond .ne 5, 3) := dk_154 0 5 (dk_at dksX2_failures_0 4 rfl rfl)
theorem dX2_failures_7 : decode cX2_failures 7 = .ok (.iconst (-1), 1) := dk_2 (dk_at dksX2_failures_0 7 rfl rfl)
theorem dX2_failures_8 : decode cX2_failures 8 = .ok (.ireturn, 1) := dk_172 (dk_at dksX2_failures_0 8 rfl rfl)
theorem dX2_failures_9 : decode cX2_failures 9 = .ok (.iload_n 2, 1) := dk_28 (dk_at dksX2_failures_0 9 rfl rfl)
theorem dX2_failures_10 : decode cX2_failures 10 = .ok (.iconst 0, 1) := dk_3 (dk_at dksX2_failures_0 10 rfl rfl)
theorem dX2_failures_11 : decode cX2_failures 11 = .ok (.bipush 99, 2) := dk_16 99 (dk_at dksX2_failures_0 11 rfl rfl)
theorem dX2_failures_13 : decode cX2_failures 13 = .ok (.invokestatic 38, 3) := dk_184 0 38 (dk_at dksX2_failures_0 13 rfl rfl)
theorem dX2_failures_16 : decode cX2_failures 16 = .ok (.ifCond .ne 6, 3) := dk_154 0 6 (dk_at dksX2_failures_0 16 rfl rfl)
theorem dX2_failures_19 : decode cX2_failures 19 = .ok (.bipush (-2), 2) := dk_16 254 (dk_at dksX2_failures_0 19 rfl rfl)
theorem dX2_failures_21 : decode cX2_failures 21 = .ok (.ireturn, 1) := dk_172 (dk_at dksX2_failures_0 21 rfl rfl)
theorem dX2_failures_22 : decode cX2_failures 22 = .ok (.aload_n 0, 1) := dk_42 (dk_at dksX2_failures_0 22 rfl rfl)
theorem dX2_failures_23 : decode cX2_failures 23 = .ok (.getfield 22, 3) := dk_180 0 22 (dk_at dksX2_failures_1 0 rfl rfl)
theorem dX2_failures_26 : decode cX2_failures 26 = .ok (.bipush 9, 2) := dk_16 9 (dk_at dksX2_failures_1 3 rfl rfl)
theorem dX2_failures_28 : decode cX2_failures 28 = .ok (.iload_n 1, 1) := dk_27 (dk_at dksX2_failures_1 5 rfl rfl)
theorem dX2_failures_29 : decode cX2_failures 29 = .ok (.iadd, 1) := dk_96 (dk_at dksX2_failures_1 6 rfl rfl)
theorem dX2_failures_30 : decode cX2_failures 30 = .ok (.iaload, 1) := dk_46 (dk_at dksX2_failures_1 7 rfl rfl)
theorem dX2_failures_31 : decode cX2_failures 31 = .ok (.istore_n 3, 1) := dk_62 (dk_at dksX2_failures_1 8 rfl rfl)
theorem dX2_failures_32 : decode cX2_failures 32 = .ok (.aload_n 0, 1) := dk_42 (dk_at dksX2_failures_1 9 rfl rfl)
theorem dX2_failures_33 : decode cX2_failures 33 = .ok (.getfield 22, 3) := dk_180 0 22 (dk_at dksX2_failures_1 10 rfl rfl)
theorem dX2_failures_36 : decode cX2_failures 36 = .ok (.bipush 9, 2) := dk_16 9 (dk_at dksX2_failures_1 13 rfl rfl)
theorem dX2_failures_38 : decode cX2_failures 38 = .ok (.iload_n 1, 1) := dk_27 (dk_at dksX2_failures_1 15 rfl rfl)
theorem dX2_failures_39 : decode cX2_failures 39 = .ok (.iadd, 1) := dk_96 (dk_at dksX2_failures_1 16 rfl rfl)
theorem dX2_failures_40 : decode cX2_failures 40 = .ok (.iload_n 2, 1) := dk_28 (dk_at dksX2_failures_1 17 rfl rfl)
theorem dX2_failures_41 : decode cX2_failures 41 = .ok (.iastore, 1) := dk_79 (dk_at dksX2_failures_1 18 rfl rfl)
theorem dX2_failures_42 : decode cX2_failures 42 = .ok (.iload_n 3, 1) := dk_29 (dk_at dksX2_failures_1 19 rfl rfl)
theorem dX2_failures_43 : decode cX2_failures 43 = .ok (.ireturn, 1) := dk_172 (dk_at dksX2_failures_1 20 rfl rfl)
theorem hd_X2_isCode : (yX2_isCode.cls ≠ "java/lang/invoke/MethodHandle" ∧ yX2_isCode.cls ≠ "java/lang/invoke/VarHandle" ∧ (parseMethodDescriptor yX2_isCode.desc).map (fun d => d.parameters.length) = some 1) := ⟨by decide +kernel, by decide +kernel, by decide +kernel⟩
def t_X2_failures (p1 : Int32) (p2 : Int32) (w0 : TS) : Option (Int32 × TS) := gB2 (t_X2_isCode p1 w0) fun x2 w1 => if x2 = 0 then some ((-1), w1) else gB2 (t_X2_isIn p2 (nI 0) (nI 99) w1) fun x5 w4 => if x5 = 0 then some ((-2), w4) else gB1 (tLd w4 5 ((nI 9) + p1)) fun x7 => gB1 (tSt w4 5 ((nI 9) + p1) p2) fun w8 => some (x7, w8)
set_option maxHeartbeats 4000000 in
set_option maxRecDepth 100000 in
theorem kt_X2_failures {D : va_G} {dA : Nat → ClassId} {A : Nat → Prop} {K : Nat → Nat} {l : Launch} {wb : gw} {ad : Nat → Nat} (hinj : tInj ad) {h : Nat} (hh : 2 ≤ h) {p1 : Int32} {p2 : Int32} {w0 ww : TS} {rr : Int32} (hf : t_X2_failures p1 p2 w0 = some (rr, ww)) : gMet D dA A K l yX2_failures (ws_ yX2_failures cX2_failures 4 (some .int)) h [(ga (some (ad 0))), (gi p1), (gi p2)] (some (gi rr)) (twOf wb ad w0) (twOf wb ad ww) := by
  refine j_start (own := RX2) (by decide +kernel) rfl (Nat.le_of_ble_eq_true rfl) ?_
  intro p e R s m args below meth c C hr hin hw
  unfold t_X2_failures at hf
  show gJ D dA A K p l e R s m args below meth c (gEnd D dA A K below args s (twOf wb ad w0) (some (gi rr)) (twOf wb ad ww)) 4 0 [(0, (ga (some (ad 0)))), (1, (gi p1)), (2, (gi p2))] [] (twOf wb ad w0)
  refine j_iload_n C dX2_failures_0 rfl ?_
  replace hf := gB2_e hf
  obtain ⟨x2, w1, ew1, hf⟩ := hf
  refine j_callS (As := [(gi p1)]) (rest := []) (v := (some (gi x2))) C (by omega) (kt_X2_isCode hinj (by omega) ew1) q1783 q1784 q93 q1785 hd_X2_isCode (by decide) rfl (Nat.le_of_ble_eq_true rfl) dX2_failures_1 ?_
  refine j_if_ne (tgt := 9) C dX2_failures_4 (by decide) (fun c3 => ?_) (fun c3 => ?_)
  · replace hf := gIf_f hf c3
    refine j_iload_n C dX2_failures_9 rfl ?_
    refine j_iconst (v := (nI 0)) C dX2_failures_10 (by decide) ?_
    refine j_bipush (v := (nI 99)) C dX2_failures_11 (by decide) ?_
    replace hf := gB2_e hf
    obtain ⟨x5, w4, ew4, hf⟩ := hf
    refine j_callS (As := [(gi p2), (gi (nI 0)), (gi (nI 99))]) (rest := []) (v := (some (gi x5))) C (by omega) (kt_X2_isIn hinj (by omega) ew4) q1662 q1663 q93 q1664 hd_X2_isIn (by decide) rfl (Nat.le_of_ble_eq_true rfl) dX2_failures_13 ?_
    refine j_if_ne (tgt := 22) C dX2_failures_16 (by decide) (fun c6 => ?_) (fun c6 => ?_)
    · replace hf := gIf_f hf c6
      refine j_aload_n C dX2_failures_22 rfl ?_
      refine j_get (v := (ga (some (ad 5)))) C fl_X2_22_2 dX2_failures_23 (tw_F hinj rfl) ?_
      refine j_bipush (v := (nI 9)) C dX2_failures_26 (by decide) ?_
      refine j_iload_n C dX2_failures_28 rfl ?_
      refine j_iadd C dX2_failures_29 ?_
      replace hf := gB1_e hf
      obtain ⟨x7, ex7, hf⟩ := hf
      refine j_iald C (tw_ld hinj ex7) dX2_failures_30 ?_
      refine j_istore_n (lv' := [(3, (gi x7)), (0, (ga (some (ad 0)))), (1, (gi p1)), (2, (gi p2))]) C dX2_failures_31 (by decide) rfl ?_
      refine j_aload_n C dX2_failures_32 rfl ?_
      refine j_get (v := (ga (some (ad 5)))) C fl_X2_22_2 dX2_failures_33 (tw_F hinj rfl) ?_
      refine j_bipush (v := (nI 9)) C dX2_failures_36 (by decide) ?_
      refine j_iload_n C dX2_failures_38 rfl ?_
      refine j_iadd C dX2_failures_39 ?_
      refine j_iload_n C dX2_failures_40 rfl ?_
      replace hf := gB1_e hf
      obtain ⟨w8, ew8, hf⟩ := hf
      refine j_iast C (tw_st hinj ew8) dX2_failures_41 ?_
      refine j_iload_n C dX2_failures_42 rfl ?_
      obtain ⟨rfl, rfl⟩ := gSome hf
      exact j_iret C hr hw dX2_failures_43
    · replace hf := gIf_t hf c6
      refine j_bipush (v := (-2)) C dX2_failures_19 (by decide) ?_
      obtain ⟨rfl, rfl⟩ := gSome hf
      exact j_iret C hr hw dX2_failures_21
  · replace hf := gIf_t hf c3
    refine j_iconst (v := (-1)) C dX2_failures_7 (by decide) ?_
    obtain ⟨rfl, rfl⟩ := gSome hf
    exact j_iret C hr hw dX2_failures_8
def dkwX2_of_0 : List UInt8 := [16, 21, 17, 4, 238, 26, 104, 96, 27, 96, 172]
abbrev dktX2_of_0 : List UInt8 := dkwX2_of_0 ++ []
theorem dksX2_of_0 : cX2_of.data.toList.drop 0 = dktX2_of_0 := by decide +kernel
theorem dX2_of_0 : decode cX2_of 0 = .ok (.bipush 21, 2) := dk_16 21 (dk_at dksX2_of_0 0 rfl rfl)
theorem dX2_of_2 : decode cX2_of 2 = .ok (.sipush 1262, 3) := dk_17 4 238 (dk_at dksX2_of_0 2 rfl rfl)
theorem dX2_of_5 : decode cX2_of 5 = .ok (.iload_n 0, 1) := dk_26 (dk_at dksX2_of_0 5 rfl rfl)
theorem dX2_of_6 : decode cX2_of 6 = .ok (.imul, 1) := dk_104 (dk_at dksX2_of_0 6 rfl rfl)
theorem dX2_of_7 : decode cX2_of 7 = .ok (.iadd, 1) := dk_96 (dk_at dksX2_of_0 7 rfl rfl)
theorem dX2_of_8 : decode cX2_of 8 = .ok (.iload_n 1, 1) := dk_27 (dk_at dksX2_of_0 8 rfl rfl)
theorem dX2_of_9 : decode cX2_of 9 = .ok (.iadd, 1) := dk_96 (dk_at dksX2_of_0 9 rfl rfl)
theorem dX2_of_10 : decode cX2_of 10 = .ok (.ireturn, 1) := dk_172 (dk_at dksX2_of_0 10 rfl rfl)
def t_X2_of (p0 : Int32) (p1 : Int32) (w0 : TS) : Option (Int32 × TS) := some ((((nI 21) + ((nI 1262) * p0)) + p1), w0)
set_option maxHeartbeats 4000000 in
set_option maxRecDepth 100000 in
theorem kt_X2_of {D : va_G} {dA : Nat → ClassId} {A : Nat → Prop} {K : Nat → Nat} {l : Launch} {wb : gw} {ad : Nat → Nat} (hinj : tInj ad) {h : Nat} (hh : 0 ≤ h) {p0 : Int32} {p1 : Int32} {w0 ww : TS} {rr : Int32} (hf : t_X2_of p0 p1 w0 = some (rr, ww)) : gMet D dA A K l yX2_of (ws_ yX2_of cX2_of 2 (some .int)) h [(gi p0), (gi p1)] (some (gi rr)) (twOf wb ad w0) (twOf wb ad ww) := by
  refine j_start (own := RX2) (by decide +kernel) rfl (Nat.le_of_ble_eq_true rfl) ?_
  intro p e R s m args below meth c C hr hin hw
  unfold t_X2_of at hf
  show gJ D dA A K p l e R s m args below meth c (gEnd D dA A K below args s (twOf wb ad w0) (some (gi rr)) (twOf wb ad ww)) 2 0 [(0, (gi p0)), (1, (gi p1))] [] (twOf wb ad w0)
  refine j_bipush (v := (nI 21)) C dX2_of_0 (by decide) ?_
  refine j_sipush (v := (nI 1262)) C dX2_of_2 (by decide) ?_
  refine j_iload_n C dX2_of_5 rfl ?_
  refine j_imul C dX2_of_6 ?_
  refine j_iadd C dX2_of_7 ?_
  refine j_iload_n C dX2_of_8 rfl ?_
  refine j_iadd C dX2_of_9 ?_
  obtain ⟨rfl, rfl⟩ := gSome hf
  exact j_iret C hr hw dX2_of_10
def dkwX2_at_0 : List UInt8 := [26, 17, 2, 110, 16, 10, 27, 104, 96, 28, 96, 184, 0, 163, 172]
abbrev dktX2_at_0 : List UInt8 := dkwX2_at_0 ++ []
theorem dksX2_at_0 : cX2_at.data.toList.drop 0 = dktX2_at_0 := by decide +kernel
theorem dX2_at_0 : decode cX2_at 0 = .ok (.iload_n 0, 1) := dk_26 (dk_at dksX2_at_0 0 rfl rfl)
theorem dX2_at_1 : decode cX2_at 1 = .ok (.sipush 622, 3) := dk_17 2 110 (dk_at dksX2_at_0 1 rfl rfl)
theorem dX2_at_4 : decode cX2_at 4 = .ok (.bipush 10, 2) := dk_16 10 (dk_at dksX2_at_0 4 rfl rfl)
theorem dX2_at_6 : decode cX2_at 6 = .ok (.iload_n 1, 1) := dk_27 (dk_at dksX2_at_0 6 rfl rfl)
theorem dX2_at_7 : decode cX2_at 7 = .ok (.imul, 1) := dk_104 (dk_at dksX2_at_0 7 rfl rfl)
theorem dX2_at_8 : decode cX2_at 8 = .ok (.iadd, 1) := dk_96 (dk_at dksX2_at_0 8 rfl rfl)
theorem dX2_at_9 : decode cX2_at 9 = .ok (.iload_n 2, 1) := dk_28 (dk_at dksX2_at_0 9 rfl rfl)
theorem dX2_at_10 : decode cX2_at 10 = .ok (.iadd, 1) := dk_96 (dk_at dksX2_at_0 10 rfl rfl)
theorem dX2_at_11 : decode cX2_at 11 = .ok (.invokestatic 163, 3) := dk_184 0 163 (dk_at dksX2_at_0 11 rfl rfl)
theorem dX2_at_14 : decode cX2_at 14 = .ok (.ireturn, 1) := dk_172 (dk_at dksX2_at_0 14 rfl rfl)
theorem hd_X2_of : (yX2_of.cls ≠ "java/lang/invoke/MethodHandle" ∧ yX2_of.cls ≠ "java/lang/invoke/VarHandle" ∧ (parseMethodDescriptor yX2_of.desc).map (fun d => d.parameters.length) = some 2) := ⟨by decide +kernel, by decide +kernel, by decide +kernel⟩
def t_X2_at (p0 : Int32) (p1 : Int32) (p2 : Int32) (w0 : TS) : Option (Int32 × TS) := gB2 (t_X2_of p0 (((nI 622) + ((nI 10) * p1)) + p2) w0) fun x2 w1 => some (x2, w1)
set_option maxHeartbeats 4000000 in
set_option maxRecDepth 100000 in
theorem kt_X2_at {D : va_G} {dA : Nat → ClassId} {A : Nat → Prop} {K : Nat → Nat} {l : Launch} {wb : gw} {ad : Nat → Nat} (hinj : tInj ad) {h : Nat} (hh : 1 ≤ h) {p0 : Int32} {p1 : Int32} {p2 : Int32} {w0 ww : TS} {rr : Int32} (hf : t_X2_at p0 p1 p2 w0 = some (rr, ww)) : gMet D dA A K l yX2_at (ws_ yX2_at cX2_at 3 (some .int)) h [(gi p0), (gi p1), (gi p2)] (some (gi rr)) (twOf wb ad w0) (twOf wb ad ww) := by
  refine j_start (own := RX2) (by decide +kernel) rfl (Nat.le_of_ble_eq_true rfl) ?_
  intro p e R s m args below meth c C hr hin hw
  unfold t_X2_at at hf
  show gJ D dA A K p l e R s m args below meth c (gEnd D dA A K below args s (twOf wb ad w0) (some (gi rr)) (twOf wb ad ww)) 3 0 [(0, (gi p0)), (1, (gi p1)), (2, (gi p2))] [] (twOf wb ad w0)
  refine j_iload_n C dX2_at_0 rfl ?_
  refine j_sipush (v := (nI 622)) C dX2_at_1 (by decide) ?_
  refine j_bipush (v := (nI 10)) C dX2_at_4 (by decide) ?_
  refine j_iload_n C dX2_at_6 rfl ?_
  refine j_imul C dX2_at_7 ?_
  refine j_iadd C dX2_at_8 ?_
  refine j_iload_n C dX2_at_9 rfl ?_
  refine j_iadd C dX2_at_10 ?_
  replace hf := gB2_e hf
  obtain ⟨x2, w1, ew1, hf⟩ := hf
  refine j_callS (As := [(gi p0), (gi (((nI 622) + ((nI 10) * p1)) + p2))]) (rest := []) (v := (some (gi x2))) C (by omega) (kt_X2_of hinj (by omega) ew1) q1798 q1799 q93 q1800 hd_X2_of (by decide) rfl (Nat.le_of_ble_eq_true rfl) dX2_at_11 ?_
  obtain ⟨rfl, rfl⟩ := gSome hf
  exact j_iret C hr hw dX2_at_14
def dkwX2_versionOf_0 : List UInt8 := [7, 42, 180, 0, 22, 27, 5, 184, 0, 163, 46, 104, 42, 180, 0, 22, 27, 6, 184, 0, 163, 46, 96, 172]
abbrev dktX2_versionOf_0 : List UInt8 := dkwX2_versionOf_0 ++ []
theorem dksX2_versionOf_0 : cX2_versionOf.data.toList.drop 0 = dktX2_versionOf_0 := by decide +kernel
theorem dX2_versionOf_0 : decode cX2_versionOf 0 = .ok (.iconst 4, 1) := dk_7 (dk_at dksX2_versionOf_0 0 rfl rfl)
theorem dX2_versionOf_1 : decode cX2_versionOf 1 = .ok (.aload_n 0, 1) := dk_42 (dk_at dksX2_versionOf_0 1 rfl rfl)
theorem dX2_versionOf_2 : decode cX2_versionOf 2 = .ok (.getfield 22, 3) := dk_180 0 22 (dk_at dksX2_versionOf_0 2 rfl rfl)
theorem dX2_versionOf_5 : decode cX2_versionOf 5 = .ok (.iload_n 1, 1) := dk_27 (dk_at dksX2_versionOf_0 5 rfl rfl)
theorem dX2_versionOf_6 : decode cX2_versionOf 6 = .ok (.iconst 2, 1) := dk_5 (dk_at dksX2_versionOf_0 6 rfl rfl)
theorem dX2_versionOf_7 : decode cX2_versionOf 7 = .ok (.invokestatic 163, 3) := dk_184 0 163 (dk_at dksX2_versionOf_0 7 rfl rfl)
theorem dX2_versionOf_10 : decode cX2_versionOf 10 = .ok (.iaload, 1) := dk_46 (dk_at dksX2_versionOf_0 10 rfl rfl)
theorem dX2_versionOf_11 : decode cX2_versionOf 11 = .ok (.imul, 1) := dk_104 (dk_at dksX2_versionOf_0 11 rfl rfl)
theorem dX2_versionOf_12 : decode cX2_versionOf 12 = .ok (.aload_n 0, 1) := dk_42 (dk_at dksX2_versionOf_0 12 rfl rfl)
theorem dX2_versionOf_13 : decode cX2_versionOf 13 = .ok (.getfield 22, 3) := dk_180 0 22 (dk_at dksX2_versionOf_0 13 rfl rfl)
theorem dX2_versionOf_16 : decode cX2_versionOf 16 = .ok (.iload_n 1, 1) := dk_27 (dk_at dksX2_versionOf_0 16 rfl rfl)
theorem dX2_versionOf_17 : decode cX2_versionOf 17 = .ok (.iconst 3, 1) := dk_6 (dk_at dksX2_versionOf_0 17 rfl rfl)
theorem dX2_versionOf_18 : decode cX2_versionOf 18 = .ok (.invokestatic 163, 3) := dk_184 0 163 (dk_at dksX2_versionOf_0 18 rfl rfl)
theorem dX2_versionOf_21 : decode cX2_versionOf 21 = .ok (.iaload, 1) := dk_46 (dk_at dksX2_versionOf_0 21 rfl rfl)
theorem dX2_versionOf_22 : decode cX2_versionOf 22 = .ok (.iadd, 1) := dk_96 (dk_at dksX2_versionOf_0 22 rfl rfl)
theorem dX2_versionOf_23 : decode cX2_versionOf 23 = .ok (.ireturn, 1) := dk_172 (dk_at dksX2_versionOf_0 23 rfl rfl)
def t_X2_versionOf (p1 : Int32) (w0 : TS) : Option (Int32 × TS) := gB2 (t_X2_of p1 (nI 2) w0) fun x2 w1 => gB1 (tLd w1 5 x2) fun x3 => gB2 (t_X2_of p1 (nI 3) w1) fun x5 w4 => gB1 (tLd w4 5 x5) fun x6 => some ((((nI 4) * x3) + x6), w4)
set_option maxHeartbeats 4000000 in
set_option maxRecDepth 100000 in
theorem kt_X2_versionOf {D : va_G} {dA : Nat → ClassId} {A : Nat → Prop} {K : Nat → Nat} {l : Launch} {wb : gw} {ad : Nat → Nat} (hinj : tInj ad) {h : Nat} (hh : 1 ≤ h) {p1 : Int32} {w0 ww : TS} {rr : Int32} (hf : t_X2_versionOf p1 w0 = some (rr, ww)) : gMet D dA A K l yX2_versionOf (ws_ yX2_versionOf cX2_versionOf 2 (some .int)) h [(ga (some (ad 0))), (gi p1)] (some (gi rr)) (twOf wb ad w0) (twOf wb ad ww) := by
  refine j_start (own := RX2) (by decide +kernel) rfl (Nat.le_of_ble_eq_true rfl) ?_
  intro p e R s m args below meth c C hr hin hw
  unfold t_X2_versionOf at hf
  show gJ D dA A K p l e R s m args below meth c (gEnd D dA A K below args s (twOf wb ad w0) (some (gi rr)) (twOf wb ad ww)) 2 0 [(0, (ga (some (ad 0)))), (1, (gi p1))] [] (twOf wb ad w0)
  refine j_iconst (v := (nI 4)) C dX2_versionOf_0 (by decide) ?_
  refine j_aload_n C dX2_versionOf_1 rfl ?_
  refine j_get (v := (ga (some (ad 5)))) C fl_X2_22_2 dX2_versionOf_2 (tw_F hinj rfl) ?_
  refine j_iload_n C dX2_versionOf_5 rfl ?_
  refine j_iconst (v := (nI 2)) C dX2_versionOf_6 (by decide) ?_
  replace hf := gB2_e hf
  obtain ⟨x2, w1, ew1, hf⟩ := hf
  refine j_callS (As := [(gi p1), (gi (nI 2))]) (rest := [(ga (some (ad 5))), (gi (nI 4))]) (v := (some (gi x2))) C (by omega) (kt_X2_of hinj (by omega) ew1) q1798 q1799 q93 q1800 hd_X2_of (by decide) rfl (Nat.le_of_ble_eq_true rfl) dX2_versionOf_7 ?_
  replace hf := gB1_e hf
  obtain ⟨x3, ex3, hf⟩ := hf
  refine j_iald C (tw_ld hinj ex3) dX2_versionOf_10 ?_
  refine j_imul C dX2_versionOf_11 ?_
  refine j_aload_n C dX2_versionOf_12 rfl ?_
  refine j_get (v := (ga (some (ad 5)))) C fl_X2_22_2 dX2_versionOf_13 (tw_F hinj rfl) ?_
  refine j_iload_n C dX2_versionOf_16 rfl ?_
  refine j_iconst (v := (nI 3)) C dX2_versionOf_17 (by decide) ?_
  replace hf := gB2_e hf
  obtain ⟨x5, w4, ew4, hf⟩ := hf
  refine j_callS (As := [(gi p1), (gi (nI 3))]) (rest := [(ga (some (ad 5))), (gi ((nI 4) * x3))]) (v := (some (gi x5))) C (by omega) (kt_X2_of hinj (by omega) ew4) q1798 q1799 q93 q1800 hd_X2_of (by decide) rfl (Nat.le_of_ble_eq_true rfl) dX2_versionOf_18 ?_
  replace hf := gB1_e hf
  obtain ⟨x6, ex6, hf⟩ := hf
  refine j_iald C (tw_ld hinj ex6) dX2_versionOf_21 ?_
  refine j_iadd C dX2_versionOf_22 ?_
  obtain ⟨rfl, rfl⟩ := gSome hf
  exact j_iret C hr hw dX2_versionOf_23
def dkwX2_notes_4 : List UInt8 := [92, 46, 4, 96, 79, 177]
abbrev dktX2_notes_4 : List UInt8 := dkwX2_notes_4 ++ []
def dkwX2_notes_3 : List UInt8 := [16, 22, 6, 21, 4, 104, 96, 5, 96, 184, 0, 163, 29, 79, 42, 180, 0, 22, 27, 16, 9, 184, 0, 163]
abbrev dktX2_notes_3 : List UInt8 := dkwX2_notes_3 ++ dktX2_notes_4
def dkwX2_notes_2 : List UInt8 := [180, 0, 22, 27, 16, 22, 6, 21, 4, 104, 96, 4, 96, 184, 0, 163, 28, 79, 42, 180, 0, 22, 27]
abbrev dktX2_notes_2 : List UInt8 := dkwX2_notes_2 ++ dktX2_notes_3
def dkwX2_notes_1 : List UInt8 := [180, 0, 22, 27, 16, 22, 6, 21, 4, 104, 96, 184, 0, 163, 42, 180, 0, 22, 3, 46, 79, 42]
abbrev dktX2_notes_1 : List UInt8 := dkwX2_notes_1 ++ dktX2_notes_2
def dkwX2_notes_0 : List UInt8 := [42, 180, 0, 22, 27, 16, 9, 184, 0, 163, 46, 54, 4, 21, 4, 17, 0, 200, 162, 0, 63, 42]
abbrev dktX2_notes_0 : List UInt8 := dkwX2_notes_0 ++ dktX2_notes_1
theorem dksX2_notes_0 : cX2_notes.data.toList.drop 0 = dktX2_notes_0 := by decide +kernel
theorem dksX2_notes_1 : cX2_notes.data.toList.drop 22 = dktX2_notes_1 := dk_seg dksX2_notes_0 22 rfl rfl
theorem dksX2_notes_2 : cX2_notes.data.toList.drop 44 = dktX2_notes_2 := dk_seg dksX2_notes_1 22 rfl rfl
theorem dksX2_notes_3 : cX2_notes.data.toList.drop 67 = dktX2_notes_3 := dk_seg dksX2_notes_2 23 rfl rfl
theorem dksX2_notes_4 : cX2_notes.data.toList.drop 91 = dktX2_notes_4 := dk_seg dksX2_notes_3 24 rfl rfl
theorem dX2_notes_0 : decode cX2_notes 0 = .ok (.aload_n 0, 1) := dk_42 (dk_at dksX2_notes_0 0 rfl rfl)
theorem dX2_notes_1 : decode cX2_notes 1 = .ok (.getfield 22, 3) := dk_180 0 22 (dk_at dksX2_notes_0 1 rfl rfl)
theorem dX2_notes_4 : decode cX2_notes 4 = .ok (.iload_n 1, 1) := dk_27 (dk_at dksX2_notes_0 4 rfl rfl)
theorem dX2_notes_5 : decode cX2_notes 5 = .ok (.bipush 9, 2) := dk_16 9 (dk_at dksX2_notes_0 5 rfl rfl)
theorem dX2_notes_7 : decode cX2_notes 7 = .ok (.invokestatic 163, 3) := dk_184 0 163 (dk_at dksX2_notes_0 7 rfl rfl)
theorem dX2_notes_10 : decode cX2_notes 10 = .ok (.iaload, 1) := dk_46 (dk_at dksX2_notes_0 10 rfl rfl)
theorem dX2_notes_11 : decode cX2_notes 11 = .ok (.istore 4, 2) := dk_54 4 (dk_at dksX2_notes_0 11 rfl rfl)
theorem dX2_notes_13 : decode cX2_notes 13 = .ok (.iload 4, 2) := dk_21 4 (dk_at dksX2_notes_0 13 rfl rfl)
theorem dX2_notes_15 : decode cX2_notes 15 = .ok (.sipush 200, 3) := dk_17 0 200 (dk_at dksX2_notes_0 15 rfl rfl)
theorem dX2_notes_18 : decode cX2_notes 18 = .ok (.if_icmp .ge 63, 3) := dk_162 0 63 (dk_at dksX2_notes_0 18 rfl rfl)
theorem dX2_notes_21 : decode cX2_notes 21 = .ok (.aload_n 0, 1) := dk_42 (dk_at dksX2_notes_0 21 rfl rfl)
theorem dX2_notes_22 : decode cX2_notes 22 = .ok (.getfield 22, 3) := dk_180 0 22 (dk_at dksX2_notes_1 0 rfl rfl)
theorem dX2_notes_25 : decode cX2_notes 25 = .ok (.iload_n 1, 1) := dk_27 (dk_at dksX2_notes_1 3 rfl rfl)
theorem dX2_notes_26 : decode cX2_notes 26 = .ok (.bipush 22, 2) := dk_16 22 (dk_at dksX2_notes_1 4 rfl rfl)
theorem dX2_notes_28 : decode cX2_notes 28 = .ok (.iconst 3, 1) := dk_6 (dk_at dksX2_notes_1 6 rfl rfl)
theorem dX2_notes_29 : decode cX2_notes 29 = .ok (.iload 4, 2) := dk_21 4 (dk_at dksX2_notes_1 7 rfl rfl)
theorem dX2_notes_31 : decode cX2_notes 31 = .ok (.imul, 1) := dk_104 (dk_at dksX2_notes_1 9 rfl rfl)
theorem dX2_notes_32 : decode cX2_notes 32 = .ok (.iadd, 1) := dk_96 (dk_at dksX2_notes_1 10 rfl rfl)
theorem dX2_notes_33 : decode cX2_notes 33 = .ok (.invokestatic 163, 3) := dk_184 0 163 (dk_at dksX2_notes_1 11 rfl rfl)
theorem dX2_notes_36 : decode cX2_notes 36 = .ok (.aload_n 0, 1) := dk_42 (dk_at dksX2_notes_1 14 rfl rfl)
theorem dX2_notes_37 : decode cX2_notes 37 = .ok (.getfield 22, 3) := dk_180 0 22 (dk_at dksX2_notes_1 15 rfl rfl)
theorem dX2_notes_40 : decode cX2_notes 40 = .ok (.iconst 0, 1) := dk_3 (dk_at dksX2_notes_1 18 rfl rfl)
theorem dX2_notes_41 : decode cX2_notes 41 = .ok (.iaload, 1) := dk_46 (dk_at dksX2_notes_1 19 rfl rfl)
theorem dX2_notes_42 : decode cX2_notes 42 = .ok (.iastore, 1) := dk_79 (dk_at dksX2_notes_1 20 rfl rfl)
theorem dX2_notes_43 : decode cX2_notes 43 = .ok (.aload_n 0, 1) := dk_42 (dk_at dksX2_notes_1 21 rfl rfl)
theorem dX2_notes_44 : decode cX2_notes 44 = .ok (.getfield 22, 3) := dk_180 0 22 (dk_at dksX2_notes_2 0 rfl rfl)
theorem dX2_notes_47 : decode cX2_notes 47 = .ok (.iload_n 1, 1) := dk_27 (dk_at dksX2_notes_2 3 rfl rfl)
theorem dX2_notes_48 : decode cX2_notes 48 = .ok (.bipush 22, 2) := dk_16 22 (dk_at dksX2_notes_2 4 rfl rfl)
theorem dX2_notes_50 : decode cX2_notes 50 = .ok (.iconst 3, 1) := dk_6 (dk_at dksX2_notes_2 6 rfl rfl)
theorem dX2_notes_51 : decode cX2_notes 51 = .ok (.iload 4, 2) := dk_21 4 (dk_at dksX2_notes_2 7 rfl rfl)
theorem dX2_notes_53 : decode cX2_notes 53 = .ok (.imul, 1) := dk_104 (dk_at dksX2_notes_2 9 rfl rfl)
theorem dX2_notes_54 : decode cX2_notes 54 = .ok (.iadd, 1) := dk_96 (dk_at dksX2_notes_2 10 rfl rfl)
theorem dX2_notes_55 : decode cX2_notes 55 = .ok (.iconst 1, 1) := dk_4 (dk_at dksX2_notes_2 11 rfl rfl)
theorem dX2_notes_56 : decode cX2_notes 56 = .ok (.iadd, 1) := dk_96 (dk_at dksX2_notes_2 12 rfl rfl)
theorem dX2_notes_57 : decode cX2_notes 57 = .ok (.invokestatic 163, 3) := dk_184 0 163 (dk_at dksX2_notes_2 13 rfl rfl)
theorem dX2_notes_60 : decode cX2_notes 60 = .ok (.iload_n 2, 1) := dk_28 (dk_at dksX2_notes_2 16 rfl rfl)
theorem dX2_notes_61 : decode cX2_notes 61 = .ok (.iastore, 1) := dk_79 (dk_at dksX2_notes_2 17 rfl rfl)
theorem dX2_notes_62 : decode cX2_notes 62 = .ok (.aload_n 0, 1) := dk_42 (dk_at dksX2_notes_2 18 rfl rfl)
theorem dX2_notes_63 : decode cX2_notes 63 = .ok (.getfield 22, 3) := dk_180 0 22 (dk_at dksX2_notes_2 19 rfl rfl)
theorem dX2_notes_66 : decode cX2_notes 66 = .ok (.iload_n 1, 1) := dk_27 (dk_at dksX2_notes_2 22 rfl rfl)
theorem dX2_notes_67 : decode cX2_notes 67 = .ok (.bipush 22, 2) := dk_16 22 (dk_at dksX2_notes_3 0 rfl rfl)
theorem dX2_notes_69 : decode cX2_notes 69 = .ok (.iconst 3, 1) := dk_6 (dk_at dksX2_notes_3 2 rfl rfl)
theorem dX2_notes_70 : decode cX2_notes 70 = .ok (.iload 4, 2) := dk_21 4 (dk_at dksX2_notes_3 3 rfl rfl)
theorem dX2_notes_72 : decode cX2_notes 72 = .ok (.imul, 1) := dk_104 (dk_at dksX2_notes_3 5 rfl rfl)
theorem dX2_notes_73 : decode cX2_notes 73 = .ok (.iadd, 1) := dk_96 (dk_at dksX2_notes_3 6 rfl rfl)
theorem dX2_notes_74 : decode cX2_notes 74 = .ok (.iconst 2, 1) := dk_5 (dk_at dksX2_notes_3 7 rfl rfl)
theorem dX2_notes_75 : decode cX2_notes 75 = .ok (.iadd, 1) := dk_96 (dk_at dksX2_notes_3 8 rfl rfl)
theorem dX2_notes_76 : decode cX2_notes 76 = .ok (.invokestatic 163, 3) := dk_184 0 163 (dk_at dksX2_notes_3 9 rfl rfl)
theorem dX2_notes_79 : decode cX2_notes 79 = .ok (.iload_n 3, 1) := dk_29 (dk_at dksX2_notes_3 12 rfl rfl)
theorem dX2_notes_80 : decode cX2_notes 80 = .ok (.iastore, 1) := dk_79 (dk_at dksX2_notes_3 13 rfl rfl)
theorem dX2_notes_81 : decode cX2_notes 81 = .ok (.aload_n 0, 1) := dk_42 (dk_at dksX2_notes_3 14 rfl rfl)
theorem dX2_notes_82 : decode cX2_notes 82 = .ok (.getfield 22, 3) := dk_180 0 22 (dk_at dksX2_notes_3 15 rfl rfl)
theorem dX2_notes_85 : decode cX2_notes 85 = .ok (.iload_n 1, 1) := dk_27 (dk_at dksX2_notes_3 18 rfl rfl)
theorem dX2_notes_86 : decode cX2_notes 86 = .ok (.bipush 9, 2) := dk_16 9 (dk_at dksX2_notes_3 19 rfl rfl)
theorem dX2_notes_88 : decode cX2_notes 88 = .ok (.invokestatic 163, 3) := dk_184 0 163 (dk_at dksX2_notes_3 21 rfl rfl)
theorem dX2_notes_91 : decode cX2_notes 91 = .ok (.dup2, 1) := dk_92 (dk_at dksX2_notes_4 0 rfl rfl)
theorem dX2_notes_92 : decode cX2_notes 92 = .ok (.iaload, 1) := dk_46 (dk_at dksX2_notes_4 1 rfl rfl)
theorem dX2_notes_93 : decode cX2_notes 93 = .ok (.iconst 1, 1) := dk_4 (dk_at dksX2_notes_4 2 rfl rfl)
theorem dX2_notes_94 : decode cX2_notes 94 = .ok (.iadd, 1) := dk_96 (dk_at dksX2_notes_4 3 rfl rfl)
theorem dX2_notes_95 : decode cX2_notes 95 = .ok (.iastore, 1) := dk_79 (dk_at dksX2_notes_4 4 rfl rfl)
theorem dX2_notes_96 : decode cX2_notes 96 = .ok (.return_, 1) := dk_177 (dk_at dksX2_notes_4 5 rfl rfl)
def t_X2_notes (p1 : Int32) (p2 : Int32) (p3 : Int32) (w0 : TS) : Option (Unit × TS) := gB2 (t_X2_of p1 (nI 9) w0) fun x2 w1 => gB1 (tLd w1 5 x2) fun x3 => gBd (fun (x6 : Int32) (w5 : TS) => gB2 (t_X2_of x6 (nI 9) w5) fun x8 w7 => gB1 (tLd w7 5 x8) fun x9 => gB1 (tSt w7 5 x8 (x9 + (nI 1))) fun w10 => some ((), w10)) fun k4 => if (nI 200) ≤ x3 then k4 p1 w1 else gB2 (t_X2_of p1 ((nI 22) + ((nI 3) * x3)) w1) fun x13 w12 => gB1 (tLd w12 5 (nI 0)) fun x14 => gB1 (tSt w12 5 x13 x14) fun w15 => gB2 (t_X2_of p1 (((nI 22) + ((nI 3) * x3)) + (nI 1)) w15) fun x17 w16 => gB1 (tSt w16 5 x17 p2) fun w18 => gB2 (t_X2_of p1 (((nI 22) + ((nI 3) * x3)) + (nI 2)) w18) fun x20 w19 => gB1 (tSt w19 5 x20 p3) fun w21 => k4 p1 w21
set_option maxHeartbeats 4000000 in
set_option maxRecDepth 100000 in
theorem kt_X2_notes {D : va_G} {dA : Nat → ClassId} {A : Nat → Prop} {K : Nat → Nat} {l : Launch} {wb : gw} {ad : Nat → Nat} (hinj : tInj ad) {h : Nat} (hh : 1 ≤ h) {p1 : Int32} {p2 : Int32} {p3 : Int32} {w0 ww : TS} {rr : Unit} (hf : t_X2_notes p1 p2 p3 w0 = some (rr, ww)) : gMet D dA A K l yX2_notes (ws_ yX2_notes cX2_notes 5 none) h [(ga (some (ad 0))), (gi p1), (gi p2), (gi p3)] none (twOf wb ad w0) (twOf wb ad ww) := by
  refine j_start (own := RX2) (by decide +kernel) rfl (Nat.le_of_ble_eq_true rfl) ?_
  intro p e R s m args below meth c C hr hin hw
  unfold t_X2_notes at hf
  show gJ D dA A K p l e R s m args below meth c (gEnd D dA A K below args s (twOf wb ad w0) none (twOf wb ad ww)) 5 0 [(0, (ga (some (ad 0)))), (1, (gi p1)), (2, (gi p2)), (3, (gi p3))] [] (twOf wb ad w0)
  refine j_aload_n C dX2_notes_0 rfl ?_
  refine j_get (v := (ga (some (ad 5)))) C fl_X2_22_2 dX2_notes_1 (tw_F hinj rfl) ?_
  refine j_iload_n C dX2_notes_4 rfl ?_
  refine j_bipush (v := (nI 9)) C dX2_notes_5 (by decide) ?_
  replace hf := gB2_e hf
  obtain ⟨x2, w1, ew1, hf⟩ := hf
  refine j_callS (As := [(gi p1), (gi (nI 9))]) (rest := [(ga (some (ad 5)))]) (v := (some (gi x2))) C (by omega) (kt_X2_of hinj (by omega) ew1) q1798 q1799 q93 q1800 hd_X2_of (by decide) rfl (Nat.le_of_ble_eq_true rfl) dX2_notes_7 ?_
  replace hf := gB1_e hf
  obtain ⟨x3, ex3, hf⟩ := hf
  refine j_iald C (tw_ld hinj ex3) dX2_notes_10 ?_
  refine j_istore (lv' := [(4, (gi x3)), (0, (ga (some (ad 0)))), (1, (gi p1)), (2, (gi p2)), (3, (gi p3))]) C dX2_notes_11 (by decide) rfl ?_
  refine j_iload C dX2_notes_13 rfl ?_
  refine j_sipush (v := (nI 200)) C dX2_notes_15 (by decide) ?_
  replace hf := gBd_x hf
  obtain ⟨k4, ek4, hf⟩ := hf
  have jk4 : ∀ (x6 : Int32) (w5 : TS), k4 x6 w5 = some (rr, ww) → gJ D dA A K p l e R s m args below meth c (gEnd D dA A K below args s (twOf wb ad w0) none (twOf wb ad ww)) 5 81 [(0, (ga (some (ad 0)))), (1, (gi x6))] [] (twOf wb ad w5) := by
    intro x6 w5 hf
    rw [ek4] at hf
    dsimp only at hf
    refine j_aload_n C dX2_notes_81 rfl ?_
    refine j_get (v := (ga (some (ad 5)))) C fl_X2_22_2 dX2_notes_82 (tw_F hinj rfl) ?_
    refine j_iload_n C dX2_notes_85 rfl ?_
    refine j_bipush (v := (nI 9)) C dX2_notes_86 (by decide) ?_
    replace hf := gB2_e hf
    obtain ⟨x8, w7, ew7, hf⟩ := hf
    refine j_callS (As := [(gi x6), (gi (nI 9))]) (rest := [(ga (some (ad 5)))]) (v := (some (gi x8))) C (by omega) (kt_X2_of hinj (by omega) ew7) q1798 q1799 q93 q1800 hd_X2_of (by decide) rfl (Nat.le_of_ble_eq_true rfl) dX2_notes_88 ?_
    refine j_dup2 C dX2_notes_91 ?_
    replace hf := gB1_e hf
    obtain ⟨x9, ex9, hf⟩ := hf
    refine j_iald C (tw_ld hinj ex9) dX2_notes_92 ?_
    refine j_iconst (v := (nI 1)) C dX2_notes_93 (by decide) ?_
    refine j_iadd C dX2_notes_94 ?_
    replace hf := gB1_e hf
    obtain ⟨w10, ew10, hf⟩ := hf
    refine j_iast C (tw_st hinj ew10) dX2_notes_95 ?_
    obtain ⟨rfl, rfl⟩ := gSome hf
    exact j_vret C hr hw dX2_notes_96
  clear ek4
  refine j_icmp_ge (tgt := 81) C dX2_notes_18 (by decide) (fun c11 => ?_) (fun c11 => ?_)
  · replace hf := gIf_t hf c11
    refine j_sub (lv' := [(0, (ga (some (ad 0)))), (1, (gi p1))]) (gL_cons rfl (gL_cons rfl (gL_nil))) ?_
    exact jk4 _ _ hf
  · replace hf := gIf_f hf c11
    refine j_aload_n C dX2_notes_21 rfl ?_
    refine j_get (v := (ga (some (ad 5)))) C fl_X2_22_2 dX2_notes_22 (tw_F hinj rfl) ?_
    refine j_iload_n C dX2_notes_25 rfl ?_
    refine j_bipush (v := (nI 22)) C dX2_notes_26 (by decide) ?_
    refine j_iconst (v := (nI 3)) C dX2_notes_28 (by decide) ?_
    refine j_iload C dX2_notes_29 rfl ?_
    refine j_imul C dX2_notes_31 ?_
    refine j_iadd C dX2_notes_32 ?_
    replace hf := gB2_e hf
    obtain ⟨x13, w12, ew12, hf⟩ := hf
    refine j_callS (As := [(gi p1), (gi ((nI 22) + ((nI 3) * x3)))]) (rest := [(ga (some (ad 5)))]) (v := (some (gi x13))) C (by omega) (kt_X2_of hinj (by omega) ew12) q1798 q1799 q93 q1800 hd_X2_of (by decide) rfl (Nat.le_of_ble_eq_true rfl) dX2_notes_33 ?_
    refine j_aload_n C dX2_notes_36 rfl ?_
    refine j_get (v := (ga (some (ad 5)))) C fl_X2_22_2 dX2_notes_37 (tw_F hinj rfl) ?_
    refine j_iconst (v := (nI 0)) C dX2_notes_40 (by decide) ?_
    replace hf := gB1_e hf
    obtain ⟨x14, ex14, hf⟩ := hf
    refine j_iald C (tw_ld hinj ex14) dX2_notes_41 ?_
    replace hf := gB1_e hf
    obtain ⟨w15, ew15, hf⟩ := hf
    refine j_iast C (tw_st hinj ew15) dX2_notes_42 ?_
    refine j_aload_n C dX2_notes_43 rfl ?_
    refine j_get (v := (ga (some (ad 5)))) C fl_X2_22_2 dX2_notes_44 (tw_F hinj rfl) ?_
    refine j_iload_n C dX2_notes_47 rfl ?_
    refine j_bipush (v := (nI 22)) C dX2_notes_48 (by decide) ?_
    refine j_iconst (v := (nI 3)) C dX2_notes_50 (by decide) ?_
    refine j_iload C dX2_notes_51 rfl ?_
    refine j_imul C dX2_notes_53 ?_
    refine j_iadd C dX2_notes_54 ?_
    refine j_iconst (v := (nI 1)) C dX2_notes_55 (by decide) ?_
    refine j_iadd C dX2_notes_56 ?_
    replace hf := gB2_e hf
    obtain ⟨x17, w16, ew16, hf⟩ := hf
    refine j_callS (As := [(gi p1), (gi (((nI 22) + ((nI 3) * x3)) + (nI 1)))]) (rest := [(ga (some (ad 5)))]) (v := (some (gi x17))) C (by omega) (kt_X2_of hinj (by omega) ew16) q1798 q1799 q93 q1800 hd_X2_of (by decide) rfl (Nat.le_of_ble_eq_true rfl) dX2_notes_57 ?_
    refine j_iload_n C dX2_notes_60 rfl ?_
    replace hf := gB1_e hf
    obtain ⟨w18, ew18, hf⟩ := hf
    refine j_iast C (tw_st hinj ew18) dX2_notes_61 ?_
    refine j_aload_n C dX2_notes_62 rfl ?_
    refine j_get (v := (ga (some (ad 5)))) C fl_X2_22_2 dX2_notes_63 (tw_F hinj rfl) ?_
    refine j_iload_n C dX2_notes_66 rfl ?_
    refine j_bipush (v := (nI 22)) C dX2_notes_67 (by decide) ?_
    refine j_iconst (v := (nI 3)) C dX2_notes_69 (by decide) ?_
    refine j_iload C dX2_notes_70 rfl ?_
    refine j_imul C dX2_notes_72 ?_
    refine j_iadd C dX2_notes_73 ?_
    refine j_iconst (v := (nI 2)) C dX2_notes_74 (by decide) ?_
    refine j_iadd C dX2_notes_75 ?_
    replace hf := gB2_e hf
    obtain ⟨x20, w19, ew19, hf⟩ := hf
    refine j_callS (As := [(gi p1), (gi (((nI 22) + ((nI 3) * x3)) + (nI 2)))]) (rest := [(ga (some (ad 5)))]) (v := (some (gi x20))) C (by omega) (kt_X2_of hinj (by omega) ew19) q1798 q1799 q93 q1800 hd_X2_of (by decide) rfl (Nat.le_of_ble_eq_true rfl) dX2_notes_76 ?_
    refine j_iload_n C dX2_notes_79 rfl ?_
    replace hf := gB1_e hf
    obtain ⟨w21, ew21, hf⟩ := hf
    refine j_iast C (tw_st hinj ew21) dX2_notes_80 ?_
    refine j_sub (lv' := [(0, (ga (some (ad 0)))), (1, (gi p1))]) (gL_cons rfl (gL_cons rfl (gL_nil))) ?_
    exact jk4 _ _ hf
def dkwX2_fails_1 : List UInt8 := [4, 100, 79, 4, 172]
abbrev dktX2_fails_1 : List UInt8 := dkwX2_fails_1 ++ []
def dkwX2_fails_0 : List UInt8 := [42, 180, 0, 22, 16, 9, 27, 96, 46, 154, 0, 5, 3, 172, 42, 180, 0, 22, 16, 9, 27, 96, 92, 46]
abbrev dktX2_fails_0 : List UInt8 := dkwX2_fails_0 ++ dktX2_fails_1
theorem dksX2_fails_0 : cX2_fails.data.toList.drop 0 = dktX2_fails_0 := by decide +kernel
theorem dksX2_fails_1 : cX2_fails.data.toList.drop 24 = dktX2_fails_1 := dk_seg dksX2_fails_0 24 rfl rfl
theorem dX2_fails_0 : decode cX2_fails 0 = .ok (.aload_n 0, 1) := dk_42 (dk_at dksX2_fails_0 0 rfl rfl)
theorem dX2_fails_1 : decode cX2_fails 1 = .ok (.getfield 22, 3) := dk_180 0 22 (dk_at dksX2_fails_0 1 rfl rfl)
theorem dX2_fails_4 : decode cX2_fails 4 = .ok (.bipush 9, 2) := dk_16 9 (dk_at dksX2_fails_0 4 rfl rfl)
theorem dX2_fails_6 : decode cX2_fails 6 = .ok (.iload_n 1, 1) := dk_27 (dk_at dksX2_fails_0 6 rfl rfl)
theorem dX2_fails_7 : decode cX2_fails 7 = .ok (.iadd, 1) := dk_96 (dk_at dksX2_fails_0 7 rfl rfl)
theorem dX2_fails_8 : decode cX2_fails 8 = .ok (.iaload, 1) := dk_46 (dk_at dksX2_fails_0 8 rfl rfl)
theorem dX2_fails_9 : decode cX2_fails 9 = .ok (.ifCond .ne 5, 3) := dk_154 0 5 (dk_at dksX2_fails_0 9 rfl rfl)
theorem dX2_fails_12 : decode cX2_fails 12 = .ok (.iconst 0, 1) := dk_3 (dk_at dksX2_fails_0 12 rfl rfl)
theorem dX2_fails_13 : decode cX2_fails 13 = .ok (.ireturn, 1) := dk_172 (dk_at dksX2_fails_0 13 rfl rfl)
theorem dX2_fails_14 : decode cX2_fails 14 = .ok (.aload_n 0, 1) := dk_42 (dk_at dksX2_fails_0 14 rfl rfl)
theorem dX2_fails_15 : decode cX2_fails 15 = .ok (.getfield 22, 3) := dk_180 0 22 (dk_at dksX2_fails_0 15 rfl rfl)
theorem dX2_fails_18 : decode cX2_fails 18 = .ok (.bipush 9, 2) := dk_16 9 (dk_at dksX2_fails_0 18 rfl rfl)
theorem dX2_fails_20 : decode cX2_fails 20 = .ok (.iload_n 1, 1) := dk_27 (dk_at dksX2_fails_0 20 rfl rfl)
theorem dX2_fails_21 : decode cX2_fails 21 = .ok (.iadd, 1) := dk_96 (dk_at dksX2_fails_0 21 rfl rfl)
theorem dX2_fails_22 : decode cX2_fails 22 = .ok (.dup2, 1) := dk_92 (dk_at dksX2_fails_0 22 rfl rfl)
theorem dX2_fails_23 : decode cX2_fails 23 = .ok (.iaload, 1) := dk_46 (dk_at dksX2_fails_0 23 rfl rfl)
theorem dX2_fails_24 : decode cX2_fails 24 = .ok (.iconst 1, 1) := dk_4 (dk_at dksX2_fails_1 0 rfl rfl)
theorem dX2_fails_25 : decode cX2_fails 25 = .ok (.isub, 1) := dk_100 (dk_at dksX2_fails_1 1 rfl rfl)
theorem dX2_fails_26 : decode cX2_fails 26 = .ok (.iastore, 1) := dk_79 (dk_at dksX2_fails_1 2 rfl rfl)
theorem dX2_fails_27 : decode cX2_fails 27 = .ok (.iconst 1, 1) := dk_4 (dk_at dksX2_fails_1 3 rfl rfl)
theorem dX2_fails_28 : decode cX2_fails 28 = .ok (.ireturn, 1) := dk_172 (dk_at dksX2_fails_1 4 rfl rfl)
def t_X2_fails (p1 : Int32) (w0 : TS) : Option (Int32 × TS) := gB1 (tLd w0 5 ((nI 9) + p1)) fun x1 => if x1 = 0 then some ((nI 0), w0) else gB1 (tLd w0 5 ((nI 9) + p1)) fun x3 => gB1 (tSt w0 5 ((nI 9) + p1) (x3 - (nI 1))) fun w4 => some ((nI 1), w4)
set_option maxHeartbeats 4000000 in
set_option maxRecDepth 100000 in
theorem kt_X2_fails {D : va_G} {dA : Nat → ClassId} {A : Nat → Prop} {K : Nat → Nat} {l : Launch} {wb : gw} {ad : Nat → Nat} (hinj : tInj ad) {h : Nat} (hh : 0 ≤ h) {p1 : Int32} {w0 ww : TS} {rr : Int32} (hf : t_X2_fails p1 w0 = some (rr, ww)) : gMet D dA A K l yX2_fails (ws_ yX2_fails cX2_fails 2 (some .boolean)) h [(ga (some (ad 0))), (gi p1)] (some (gi rr)) (twOf wb ad w0) (twOf wb ad ww) := by
  refine j_start (own := RX2) (by decide +kernel) rfl (Nat.le_of_ble_eq_true rfl) ?_
  intro p e R s m args below meth c C hr hin hw
  unfold t_X2_fails at hf
  show gJ D dA A K p l e R s m args below meth c (gEnd D dA A K below args s (twOf wb ad w0) (some (gi rr)) (twOf wb ad ww)) 2 0 [(0, (ga (some (ad 0)))), (1, (gi p1))] [] (twOf wb ad w0)
  refine j_aload_n C dX2_fails_0 rfl ?_
  refine j_get (v := (ga (some (ad 5)))) C fl_X2_22_2 dX2_fails_1 (tw_F hinj rfl) ?_
  refine j_bipush (v := (nI 9)) C dX2_fails_4 (by decide) ?_
  refine j_iload_n C dX2_fails_6 rfl ?_
  refine j_iadd C dX2_fails_7 ?_
  replace hf := gB1_e hf
  obtain ⟨x1, ex1, hf⟩ := hf
  refine j_iald C (tw_ld hinj ex1) dX2_fails_8 ?_
  refine j_if_ne (tgt := 14) C dX2_fails_9 (by decide) (fun c2 => ?_) (fun c2 => ?_)
  · replace hf := gIf_f hf c2
    refine j_aload_n C dX2_fails_14 rfl ?_
    refine j_get (v := (ga (some (ad 5)))) C fl_X2_22_2 dX2_fails_15 (tw_F hinj rfl) ?_
    refine j_bipush (v := (nI 9)) C dX2_fails_18 (by decide) ?_
    refine j_iload_n C dX2_fails_20 rfl ?_
    refine j_iadd C dX2_fails_21 ?_
    refine j_dup2 C dX2_fails_22 ?_
    replace hf := gB1_e hf
    obtain ⟨x3, ex3, hf⟩ := hf
    refine j_iald C (tw_ld hinj ex3) dX2_fails_23 ?_
    refine j_iconst (v := (nI 1)) C dX2_fails_24 (by decide) ?_
    refine j_isub C dX2_fails_25 ?_
    replace hf := gB1_e hf
    obtain ⟨w4, ew4, hf⟩ := hf
    refine j_iast C (tw_st hinj ew4) dX2_fails_26 ?_
    refine j_iconst (v := (nI 1)) C dX2_fails_27 (by decide) ?_
    obtain ⟨rfl, rfl⟩ := gSome hf
    exact j_zret C hr (by decide) hw dX2_fails_28
  · replace hf := gIf_t hf c2
    refine j_iconst (v := (nI 0)) C dX2_fails_12 (by decide) ?_
    obtain ⟨rfl, rfl⟩ := gSome hf
    exact j_zret C hr (by decide) hw dX2_fails_13
def dkwX2_comesTo_0 : List UInt8 := [42, 180, 0, 22, 27, 28, 3, 184, 0, 169, 29, 79, 29, 172]
abbrev dktX2_comesTo_0 : List UInt8 := dkwX2_comesTo_0 ++ []
theorem dksX2_comesTo_0 : cX2_comesTo.data.toList.drop 0 = dktX2_comesTo_0 := by decide +kernel
theorem dX2_comesTo_0 : decode cX2_comesTo 0 = .ok (.aload_n 0, 1) := dk_42 (dk_at dksX2_comesTo_0 0 rfl rfl)
theorem dX2_comesTo_1 : decode cX2_comesTo 1 = .ok (.getfield 22, 3) := dk_180 0 22 (dk_at dksX2_comesTo_0 1 rfl rfl)
theorem dX2_comesTo_4 : decode cX2_comesTo 4 = .ok (.iload_n 1, 1) := dk_27 (dk_at dksX2_comesTo_0 4 rfl rfl)
theorem dX2_comesTo_5 : decode cX2_comesTo 5 = .ok (.iload_n 2, 1) := dk_28 (dk_at dksX2_comesTo_0 5 rfl rfl)
theorem dX2_comesTo_6 : decode cX2_comesTo 6 = .ok (.iconst 0, 1) := dk_3 (dk_at dksX2_comesTo_0 6 rfl rfl)
theorem dX2_comesTo_7 : decode cX2_comesTo 7 = .ok (.invokestatic 169, 3) := dk_184 0 169 (dk_at dksX2_comesTo_0 7 rfl rfl)
theorem dX2_comesTo_10 : decode cX2_comesTo 10 = .ok (.iload_n 3, 1) := dk_29 (dk_at dksX2_comesTo_0 10 rfl rfl)
theorem dX2_comesTo_11 : decode cX2_comesTo 11 = .ok (.iastore, 1) := dk_79 (dk_at dksX2_comesTo_0 11 rfl rfl)
theorem dX2_comesTo_12 : decode cX2_comesTo 12 = .ok (.iload_n 3, 1) := dk_29 (dk_at dksX2_comesTo_0 12 rfl rfl)
theorem dX2_comesTo_13 : decode cX2_comesTo 13 = .ok (.ireturn, 1) := dk_172 (dk_at dksX2_comesTo_0 13 rfl rfl)
theorem hd_X2_at : (yX2_at.cls ≠ "java/lang/invoke/MethodHandle" ∧ yX2_at.cls ≠ "java/lang/invoke/VarHandle" ∧ (parseMethodDescriptor yX2_at.desc).map (fun d => d.parameters.length) = some 3) := ⟨by decide +kernel, by decide +kernel, by decide +kernel⟩
def t_X2_comesTo (p1 : Int32) (p2 : Int32) (p3 : Int32) (w0 : TS) : Option (Int32 × TS) := gB2 (t_X2_at p1 p2 (nI 0) w0) fun x2 w1 => gB1 (tSt w1 5 x2 p3) fun w3 => some (p3, w3)
set_option maxHeartbeats 4000000 in
set_option maxRecDepth 100000 in
theorem kt_X2_comesTo {D : va_G} {dA : Nat → ClassId} {A : Nat → Prop} {K : Nat → Nat} {l : Launch} {wb : gw} {ad : Nat → Nat} (hinj : tInj ad) {h : Nat} (hh : 2 ≤ h) {p1 : Int32} {p2 : Int32} {p3 : Int32} {w0 ww : TS} {rr : Int32} (hf : t_X2_comesTo p1 p2 p3 w0 = some (rr, ww)) : gMet D dA A K l yX2_comesTo (ws_ yX2_comesTo cX2_comesTo 4 (some .int)) h [(ga (some (ad 0))), (gi p1), (gi p2), (gi p3)] (some (gi rr)) (twOf wb ad w0) (twOf wb ad ww) := by
  refine j_start (own := RX2) (by decide +kernel) rfl (Nat.le_of_ble_eq_true rfl) ?_
  intro p e R s m args below meth c C hr hin hw
  unfold t_X2_comesTo at hf
  show gJ D dA A K p l e R s m args below meth c (gEnd D dA A K below args s (twOf wb ad w0) (some (gi rr)) (twOf wb ad ww)) 4 0 [(0, (ga (some (ad 0)))), (1, (gi p1)), (2, (gi p2)), (3, (gi p3))] [] (twOf wb ad w0)
  refine j_aload_n C dX2_comesTo_0 rfl ?_
  refine j_get (v := (ga (some (ad 5)))) C fl_X2_22_2 dX2_comesTo_1 (tw_F hinj rfl) ?_
  refine j_iload_n C dX2_comesTo_4 rfl ?_
  refine j_iload_n C dX2_comesTo_5 rfl ?_
  refine j_iconst (v := (nI 0)) C dX2_comesTo_6 (by decide) ?_
  replace hf := gB2_e hf
  obtain ⟨x2, w1, ew1, hf⟩ := hf
  refine j_callS (As := [(gi p1), (gi p2), (gi (nI 0))]) (rest := [(ga (some (ad 5)))]) (v := (some (gi x2))) C (by omega) (kt_X2_at hinj (by omega) ew1) q1801 q1802 q93 q1803 hd_X2_at (by decide) rfl (Nat.le_of_ble_eq_true rfl) dX2_comesTo_7 ?_
  refine j_iload_n C dX2_comesTo_10 rfl ?_
  replace hf := gB1_e hf
  obtain ⟨w3, ew3, hf⟩ := hf
  refine j_iast C (tw_st hinj ew3) dX2_comesTo_11 ?_
  refine j_iload_n C dX2_comesTo_12 rfl ?_
  obtain ⟨rfl, rfl⟩ := gSome hf
  exact j_iret C hr hw dX2_comesTo_13
def dkwX2_becomes_1 : List UInt8 := [42, 180, 0, 22, 27, 8, 184, 0, 163, 42, 180, 0, 22, 3, 46, 79, 177]
abbrev dktX2_becomes_1 : List UInt8 := dkwX2_becomes_1 ++ []
def dkwX2_becomes_0 : List UInt8 := [42, 180, 0, 22, 27, 4, 184, 0, 163, 28, 79, 42, 27, 16, 11, 28, 182, 0, 174, 28, 5, 159, 0, 19]
abbrev dktX2_becomes_0 : List UInt8 := dkwX2_becomes_0 ++ dktX2_becomes_1
theorem dksX2_becomes_0 : cX2_becomes.data.toList.drop 0 = dktX2_becomes_0 := by decide +kernel
theorem dksX2_becomes_1 : cX2_becomes.data.toList.drop 24 = dktX2_becomes_1 := dk_seg dksX2_becomes_0 24 rfl rfl
theorem dX2_becomes_0 : decode cX2_becomes 0 = .ok (.aload_n 0, 1) := dk_42 (dk_at dksX2_becomes_0 0 rfl rfl)
theorem dX2_becomes_1 : decode cX2_becomes 1 = .ok (.getfield 22, 3) := dk_180 0 22 (dk_at dksX2_becomes_0 1 rfl rfl)
theorem dX2_becomes_4 : decode cX2_becomes 4 = .ok (.iload_n 1, 1) := dk_27 (dk_at dksX2_becomes_0 4 rfl rfl)
theorem dX2_becomes_5 : decode cX2_becomes 5 = .ok (.iconst 1, 1) := dk_4 (dk_at dksX2_becomes_0 5 rfl rfl)
theorem dX2_becomes_6 : decode cX2_becomes 6 = .ok (.invokestatic 163, 3) := dk_184 0 163 (dk_at dksX2_becomes_0 6 rfl rfl)
theorem dX2_becomes_9 : decode cX2_becomes 9 = .ok (.iload_n 2, 1) := dk_28 (dk_at dksX2_becomes_0 9 rfl rfl)
theorem dX2_becomes_10 : decode cX2_becomes 10 = .ok (.iastore, 1) := dk_79 (dk_at dksX2_becomes_0 10 rfl rfl)
theorem dX2_becomes_11 : decode cX2_becomes 11 = .ok (.aload_n 0, 1) := dk_42 (dk_at dksX2_becomes_0 11 rfl rfl)
theorem dX2_becomes_12 : decode cX2_becomes 12 = .ok (.iload_n 1, 1) := dk_27 (dk_at dksX2_becomes_0 12 rfl rfl)
theorem dX2_becomes_13 : decode cX2_becomes 13 = .ok (.bipush 11, 2) := dk_16 11 (dk_at dksX2_becomes_0 13 rfl rfl)
theorem dX2_becomes_15 : decode cX2_becomes 15 = .ok (.iload_n 2, 1) := dk_28 (dk_at dksX2_becomes_0 15 rfl rfl)
theorem dX2_becomes_16 : decode cX2_becomes 16 = .ok (.invokevirtual 174, 3) := dk_182 0 174 (dk_at dksX2_becomes_0 16 rfl rfl)
theorem dX2_becomes_19 : decode cX2_becomes 19 = .ok (.iload_n 2, 1) := dk_28 (dk_at dksX2_becomes_0 19 rfl rfl)
theorem dX2_becomes_20 : decode cX2_becomes 20 = .ok (.iconst 2, 1) := dk_5 (dk_at dksX2_becomes_0 20 rfl rfl)
theorem dX2_becomes_21 : decode cX2_becomes 21 = .ok (.if_icmp .eq 19, 3) := dk_159 0 19 (dk_at dksX2_becomes_0 21 rfl rfl)
theorem dX2_becomes_24 : decode cX2_becomes 24 = .ok (.aload_n 0, 1) := dk_42 (dk_at dksX2_becomes_1 0 rfl rfl)
theorem dX2_becomes_25 : decode cX2_becomes 25 = .ok (.getfield 22, 3) := dk_180 0 22 (dk_at dksX2_becomes_1 1 rfl rfl)
theorem dX2_becomes_28 : decode cX2_becomes 28 = .ok (.iload_n 1, 1) := dk_27 (dk_at dksX2_becomes_1 4 rfl rfl)
theorem dX2_becomes_29 : decode cX2_becomes 29 = .ok (.iconst 5, 1) := dk_8 (dk_at dksX2_becomes_1 5 rfl rfl)
theorem dX2_becomes_30 : decode cX2_becomes 30 = .ok (.invokestatic 163, 3) := dk_184 0 163 (dk_at dksX2_becomes_1 6 rfl rfl)
theorem dX2_becomes_33 : decode cX2_becomes 33 = .ok (.aload_n 0, 1) := dk_42 (dk_at dksX2_becomes_1 9 rfl rfl)
theorem dX2_becomes_34 : decode cX2_becomes 34 = .ok (.getfield 22, 3) := dk_180 0 22 (dk_at dksX2_becomes_1 10 rfl rfl)
theorem dX2_becomes_37 : decode cX2_becomes 37 = .ok (.iconst 0, 1) := dk_3 (dk_at dksX2_becomes_1 13 rfl rfl)
theorem dX2_becomes_38 : decode cX2_becomes 38 = .ok (.iaload, 1) := dk_46 (dk_at dksX2_becomes_1 14 rfl rfl)
theorem dX2_becomes_39 : decode cX2_becomes 39 = .ok (.iastore, 1) := dk_79 (dk_at dksX2_becomes_1 15 rfl rfl)
theorem dX2_becomes_40 : decode cX2_becomes 40 = .ok (.return_, 1) := dk_177 (dk_at dksX2_becomes_1 16 rfl rfl)
theorem hd_X2_notes : (yX2_notes.cls ≠ "java/lang/invoke/MethodHandle" ∧ yX2_notes.cls ≠ "java/lang/invoke/VarHandle" ∧ (parseMethodDescriptor yX2_notes.desc).map (fun d => d.parameters.length) = some 3) := ⟨by decide +kernel, by decide +kernel, by decide +kernel⟩
def t_X2_becomes (p1 : Int32) (p2 : Int32) (w0 : TS) : Option (Unit × TS) := gB2 (t_X2_of p1 (nI 1) w0) fun x2 w1 => gB1 (tSt w1 5 x2 p2) fun w3 => gB2 (t_X2_notes p1 (nI 11) p2 w3) fun _ w4 => if p2 = (nI 2) then some ((), w4) else gB2 (t_X2_of p1 (nI 5) w4) fun x7 w6 => gB1 (tLd w6 5 (nI 0)) fun x8 => gB1 (tSt w6 5 x7 x8) fun w9 => some ((), w9)
set_option maxHeartbeats 4000000 in
set_option maxRecDepth 100000 in
theorem kt_X2_becomes {D : va_G} {dA : Nat → ClassId} {A : Nat → Prop} {K : Nat → Nat} {l : Launch} {wb : gw} {ad : Nat → Nat} (hinj : tInj ad) {h : Nat} (hh : 2 ≤ h) {p1 : Int32} {p2 : Int32} {w0 ww : TS} {rr : Unit} (hf : t_X2_becomes p1 p2 w0 = some (rr, ww)) : gMet D dA A K l yX2_becomes (ws_ yX2_becomes cX2_becomes 3 none) h [(ga (some (ad 0))), (gi p1), (gi p2)] none (twOf wb ad w0) (twOf wb ad ww) := by
  refine j_start (own := RX2) (by decide +kernel) rfl (Nat.le_of_ble_eq_true rfl) ?_
  intro p e R s m args below meth c C hr hin hw
  unfold t_X2_becomes at hf
  show gJ D dA A K p l e R s m args below meth c (gEnd D dA A K below args s (twOf wb ad w0) none (twOf wb ad ww)) 3 0 [(0, (ga (some (ad 0)))), (1, (gi p1)), (2, (gi p2))] [] (twOf wb ad w0)
  refine j_aload_n C dX2_becomes_0 rfl ?_
  refine j_get (v := (ga (some (ad 5)))) C fl_X2_22_2 dX2_becomes_1 (tw_F hinj rfl) ?_
  refine j_iload_n C dX2_becomes_4 rfl ?_
  refine j_iconst (v := (nI 1)) C dX2_becomes_5 (by decide) ?_
  replace hf := gB2_e hf
  obtain ⟨x2, w1, ew1, hf⟩ := hf
  refine j_callS (As := [(gi p1), (gi (nI 1))]) (rest := [(ga (some (ad 5)))]) (v := (some (gi x2))) C (by omega) (kt_X2_of hinj (by omega) ew1) q1798 q1799 q93 q1800 hd_X2_of (by decide) rfl (Nat.le_of_ble_eq_true rfl) dX2_becomes_6 ?_
  refine j_iload_n C dX2_becomes_9 rfl ?_
  replace hf := gB1_e hf
  obtain ⟨w3, ew3, hf⟩ := hf
  refine j_iast C (tw_st hinj ew3) dX2_becomes_10 ?_
  refine j_aload_n C dX2_becomes_11 rfl ?_
  refine j_iload_n C dX2_becomes_12 rfl ?_
  refine j_bipush (v := (nI 11)) C dX2_becomes_13 (by decide) ?_
  refine j_iload_n C dX2_becomes_15 rfl ?_
  replace hf := gB2_e hf
  obtain ⟨_, w4, ew4, hf⟩ := hf
  refine j_callV (As := [(gi p1), (gi (nI 11)), (gi p2)]) (rest := []) (v := none) C (by omega) (kt_X2_notes hinj (by omega) ew4) (tw_cls hinj) rfl q1828 q1830 qs64 q93 q1831 ⟨rfl, hd_X2_notes⟩ (by decide) rfl (Nat.le_of_ble_eq_true rfl) dX2_becomes_16 ?_
  refine j_iload_n C dX2_becomes_19 rfl ?_
  refine j_iconst (v := (nI 2)) C dX2_becomes_20 (by decide) ?_
  refine j_icmp_eq (tgt := 40) C dX2_becomes_21 (by decide) (fun c5 => ?_) (fun c5 => ?_)
  · replace hf := gIf_t hf c5
    obtain ⟨rfl, rfl⟩ := gSome hf
    exact j_vret C hr hw dX2_becomes_40
  · replace hf := gIf_f hf c5
    refine j_aload_n C dX2_becomes_24 rfl ?_
    refine j_get (v := (ga (some (ad 5)))) C fl_X2_22_2 dX2_becomes_25 (tw_F hinj rfl) ?_
    refine j_iload_n C dX2_becomes_28 rfl ?_
    refine j_iconst (v := (nI 5)) C dX2_becomes_29 (by decide) ?_
    replace hf := gB2_e hf
    obtain ⟨x7, w6, ew6, hf⟩ := hf
    refine j_callS (As := [(gi p1), (gi (nI 5))]) (rest := [(ga (some (ad 5)))]) (v := (some (gi x7))) C (by omega) (kt_X2_of hinj (by omega) ew6) q1798 q1799 q93 q1800 hd_X2_of (by decide) rfl (Nat.le_of_ble_eq_true rfl) dX2_becomes_30 ?_
    refine j_aload_n C dX2_becomes_33 rfl ?_
    refine j_get (v := (ga (some (ad 5)))) C fl_X2_22_2 dX2_becomes_34 (tw_F hinj rfl) ?_
    refine j_iconst (v := (nI 0)) C dX2_becomes_37 (by decide) ?_
    replace hf := gB1_e hf
    obtain ⟨x8, ex8, hf⟩ := hf
    refine j_iald C (tw_ld hinj ex8) dX2_becomes_38 ?_
    replace hf := gB1_e hf
    obtain ⟨w9, ew9, hf⟩ := hf
    refine j_iast C (tw_st hinj ew9) dX2_becomes_39 ?_
    obtain ⟨rfl, rfl⟩ := gSome hf
    exact j_vret C hr hw dX2_becomes_40
def dkwX2_isInstance_1 : List UInt8 := [167, 0, 4, 3, 172]
abbrev dktX2_isInstance_1 : List UInt8 := dkwX2_isInstance_1 ++ []
def dkwX2_isInstance_0 : List UInt8 := [27, 3, 8, 184, 0, 38, 153, 0, 21, 42, 180, 0, 22, 27, 3, 184, 0, 163, 46, 4, 160, 0, 7, 4]
abbrev dktX2_isInstance_0 : List UInt8 := dkwX2_isInstance_0 ++ dktX2_isInstance_1
theorem dksX2_isInstance_0 : cX2_isInstance.data.toList.drop 0 = dktX2_isInstance_0 := by decide +kernel
theorem dksX2_isInstance_1 : cX2_isInstance.data.toList.drop 24 = dktX2_isInstance_1 := dk_seg dksX2_isInstance_0 24 rfl rfl
theorem dX2_isInstance_0 : decode cX2_isInstance 0 = .ok (.iload_n 1, 1) := dk_27 (dk_at dksX2_isInstance_0 0 rfl rfl)
theorem dX2_isInstance_1 : decode cX2_isInstance 1 = .ok (.iconst 0, 1) := dk_3 (dk_at dksX2_isInstance_0 1 rfl rfl)
theorem dX2_isInstance_2 : decode cX2_isInstance 2 = .ok (.iconst 5, 1) := dk_8 (dk_at dksX2_isInstance_0 2 rfl rfl)
theorem dX2_isInstance_3 : decode cX2_isInstance 3 = .ok (.invokestatic 38, 3) := dk_184 0 38 (dk_at dksX2_isInstance_0 3 rfl rfl)
theorem dX2_isInstance_6 : decode cX2_isInstance 6 = .ok (.ifCond .eq 21, 3) := dk_153 0 21 (dk_at dksX2_isInstance_0 6 rfl rfl)
theorem dX2_isInstance_9 : decode cX2_isInstance 9 = .ok (.aload_n 0, 1) := dk_42 (dk_at dksX2_isInstance_0 9 rfl rfl)
theorem dX2_isInstance_10 : decode cX2_isInstance 10 = .ok (.getfield 22, 3) := dk_180 0 22 (dk_at dksX2_isInstance_0 10 rfl rfl)
theorem dX2_isInstance_13 : decode cX2_isInstance 13 = .ok (.iload_n 1, 1) := dk_27 (dk_at dksX2_isInstance_0 13 rfl rfl)
theorem dX2_isInstance_14 : decode cX2_isInstance 14 = .ok (.iconst 0, 1) := dk_3 (dk_at dksX2_isInstance_0 14 rfl rfl)
theorem dX2_isInstance_15 : decode cX2_isInstance 15 = .ok (.invokestatic 163, 3) := dk_184 0 163 (dk_at dksX2_isInstance_0 15 rfl rfl)
theorem dX2_isInstance_18 : decode cX2_isInstance 18 = .ok (.iaload, 1) := dk_46 (dk_at dksX2_isInstance_0 18 rfl rfl)
theorem dX2_isInstance_19 : decode cX2_isInstance 19 = .ok (.iconst 1, 1) := dk_4 (dk_at dksX2_isInstance_0 19 rfl rfl)
theorem dX2_isInstance_20 : decode cX2_isInstance 20 = .ok (.if_icmp .ne 7, 3) := dk_160 0 7 (dk_at dksX2_isInstance_0 20 rfl rfl)
theorem dX2_isInstance_23 : decode cX2_isInstance 23 = .ok (.iconst 1, 1) := dk_4 (dk_at dksX2_isInstance_0 23 rfl rfl)
theorem dX2_isInstance_24 : decode cX2_isInstance 24 = .ok (.goto 4, 3) := dk_167 0 4 (dk_at dksX2_isInstance_1 0 rfl rfl)
theorem dX2_isInstance_27 : decode cX2_isInstance 27 = .ok (.iconst 0, 1) := dk_3 (dk_at dksX2_isInstance_1 3 rfl rfl)
theorem dX2_isInstance_28 : decode cX2_isInstance 28 = .ok (.ireturn, 1) := dk_172 (dk_at dksX2_isInstance_1 4 rfl rfl)
def t_X2_isInstance (p1 : Int32) (w0 : TS) : Option (Int32 × TS) := gB2 (t_X2_isIn p1 (nI 0) (nI 5) w0) fun x2 w1 => gBd (fun (w4 : TS) => some ((nI 0), w4)) fun k3 => if x2 = 0 then k3 w1 else gB2 (t_X2_of p1 (nI 0) w1) fun x7 w6 => gB1 (tLd w6 5 x7) fun x8 => if x8 = (nI 1) then some ((nI 1), w6) else k3 w6
set_option maxHeartbeats 4000000 in
set_option maxRecDepth 100000 in
theorem kt_X2_isInstance {D : va_G} {dA : Nat → ClassId} {A : Nat → Prop} {K : Nat → Nat} {l : Launch} {wb : gw} {ad : Nat → Nat} (hinj : tInj ad) {h : Nat} (hh : 1 ≤ h) {p1 : Int32} {w0 ww : TS} {rr : Int32} (hf : t_X2_isInstance p1 w0 = some (rr, ww)) : gMet D dA A K l yX2_isInstance (ws_ yX2_isInstance cX2_isInstance 2 (some .boolean)) h [(ga (some (ad 0))), (gi p1)] (some (gi rr)) (twOf wb ad w0) (twOf wb ad ww) := by
  refine j_start (own := RX2) (by decide +kernel) rfl (Nat.le_of_ble_eq_true rfl) ?_
  intro p e R s m args below meth c C hr hin hw
  unfold t_X2_isInstance at hf
  show gJ D dA A K p l e R s m args below meth c (gEnd D dA A K below args s (twOf wb ad w0) (some (gi rr)) (twOf wb ad ww)) 2 0 [(0, (ga (some (ad 0)))), (1, (gi p1))] [] (twOf wb ad w0)
  refine j_iload_n C dX2_isInstance_0 rfl ?_
  refine j_iconst (v := (nI 0)) C dX2_isInstance_1 (by decide) ?_
  refine j_iconst (v := (nI 5)) C dX2_isInstance_2 (by decide) ?_
  replace hf := gB2_e hf
  obtain ⟨x2, w1, ew1, hf⟩ := hf
  refine j_callS (As := [(gi p1), (gi (nI 0)), (gi (nI 5))]) (rest := []) (v := (some (gi x2))) C (by omega) (kt_X2_isIn hinj (by omega) ew1) q1662 q1663 q93 q1664 hd_X2_isIn (by decide) rfl (Nat.le_of_ble_eq_true rfl) dX2_isInstance_3 ?_
  replace hf := gBd_x hf
  obtain ⟨k3, ek3, hf⟩ := hf
  have jk3 : ∀ (w4 : TS), k3 w4 = some (rr, ww) → gJ D dA A K p l e R s m args below meth c (gEnd D dA A K below args s (twOf wb ad w0) (some (gi rr)) (twOf wb ad ww)) 2 27 [] [] (twOf wb ad w4) := by
    intro w4 hf
    rw [ek3] at hf
    dsimp only at hf
    refine j_iconst (v := (nI 0)) C dX2_isInstance_27 (by decide) ?_
    obtain ⟨rfl, rfl⟩ := gSome hf
    exact j_zret C hr (by decide) hw dX2_isInstance_28
  clear ek3
  refine j_if_eq (tgt := 27) C dX2_isInstance_6 (by decide) (fun c5 => ?_) (fun c5 => ?_)
  · replace hf := gIf_t hf c5
    refine j_sub (lv' := []) (gL_nil) ?_
    exact jk3 _ hf
  · replace hf := gIf_f hf c5
    refine j_aload_n C dX2_isInstance_9 rfl ?_
    refine j_get (v := (ga (some (ad 5)))) C fl_X2_22_2 dX2_isInstance_10 (tw_F hinj rfl) ?_
    refine j_iload_n C dX2_isInstance_13 rfl ?_
    refine j_iconst (v := (nI 0)) C dX2_isInstance_14 (by decide) ?_
    replace hf := gB2_e hf
    obtain ⟨x7, w6, ew6, hf⟩ := hf
    refine j_callS (As := [(gi p1), (gi (nI 0))]) (rest := [(ga (some (ad 5)))]) (v := (some (gi x7))) C (by omega) (kt_X2_of hinj (by omega) ew6) q1798 q1799 q93 q1800 hd_X2_of (by decide) rfl (Nat.le_of_ble_eq_true rfl) dX2_isInstance_15 ?_
    replace hf := gB1_e hf
    obtain ⟨x8, ex8, hf⟩ := hf
    refine j_iald C (tw_ld hinj ex8) dX2_isInstance_18 ?_
    refine j_iconst (v := (nI 1)) C dX2_isInstance_19 (by decide) ?_
    refine j_icmp_ne (tgt := 27) C dX2_isInstance_20 (by decide) (fun c9 => ?_) (fun c9 => ?_)
    · replace hf := gIf_f hf c9
      refine j_sub (lv' := []) (gL_nil) ?_
      exact jk3 _ hf
    · replace hf := gIf_t hf c9
      refine j_iconst (v := (nI 1)) C dX2_isInstance_23 (by decide) ?_
      refine j_goto (tgt := 28) C dX2_isInstance_24 (by decide) ?_
      obtain ⟨rfl, rfl⟩ := gSome hf
      exact j_zret C hr (by decide) hw dX2_isInstance_28
def dkwX2_remove_1 : List UInt8 := [153, 0, 8, 28, 5, 160, 0, 6, 16, 253, 172, 42, 180, 0, 22, 27, 3, 184, 0, 163, 3, 79, 28, 172]
abbrev dktX2_remove_1 : List UInt8 := dkwX2_remove_1 ++ []
def dkwX2_remove_0 : List UInt8 := [42, 27, 182, 0, 243, 154, 0, 5, 2, 172, 42, 180, 0, 22, 27, 4, 184, 0, 163, 46, 61, 28]
abbrev dktX2_remove_0 : List UInt8 := dkwX2_remove_0 ++ dktX2_remove_1
theorem dksX2_remove_0 : cX2_remove.data.toList.drop 0 = dktX2_remove_0 := by decide +kernel
theorem dksX2_remove_1 : cX2_remove.data.toList.drop 22 = dktX2_remove_1 := dk_seg dksX2_remove_0 22 rfl rfl
theorem dX2_remove_0 : decode cX2_remove 0 = .ok (.aload_n 0, 1) := dk_42 (dk_at dksX2_remove_0 0 rfl rfl)
theorem dX2_remove_1 : decode cX2_remove 1 = .ok (.iload_n 1, 1) := dk_27 (dk_at dksX2_remove_0 1 rfl rfl)
theorem dX2_remove_2 : decode cX2_remove 2 = .ok (.invokevirtual 243, 3) := dk_182 0 243 (dk_at dksX2_remove_0 2 rfl rfl)
theorem dX2_remove_5 : decode cX2_remove 5 = .ok (.ifCond .ne 5, 3) := dk_154 0 5 (dk_at dksX2_remove_0 5 rfl rfl)
theorem dX2_remove_8 : decode cX2_remove 8 = .ok (.iconst (-1), 1) := dk_2 (dk_at dksX2_remove_0 8 rfl rfl)
theorem dX2_remove_9 : decode cX2_remove 9 = .ok (.ireturn, 1) := dk_172 (dk_at dksX2_remove_0 9 rfl rfl)
theorem dX2_remove_10 : decode cX2_remove 10 = .ok (.aload_n 0, 1) := dk_42 (dk_at dksX2_remove_0 10 rfl rfl)
theorem dX2_remove_11 : decode cX2_remove 11 = .ok (.getfield 22, 3) := dk_180 0 22 (dk_at dksX2_remove_0 11 rfl rfl)
theorem dX2_remove_14 : decode cX2_remove 14 = .ok (.iload_n 1, 1) := dk_27 (dk_at dksX2_remove_0 14 rfl rfl)
theorem dX2_remove_15 : decode cX2_remove 15 = .ok (.iconst 1, 1) := dk_4 (dk_at dksX2_remove_0 15 rfl rfl)
theorem dX2_remove_16 : decode cX2_remove 16 = .ok (.invokestatic 163, 3) := dk_184 0 163 (dk_at dksX2_remove_0 16 rfl rfl)
theorem dX2_remove_19 : decode cX2_remove 19 = .ok (.iaload, 1) := dk_46 (dk_at dksX2_remove_0 19 rfl rfl)
theorem dX2_remove_20 : decode cX2_remove 20 = .ok (.istore_n 2, 1) := dk_61 (dk_at dksX2_remove_0 20 rfl rfl)
theorem dX2_remove_21 : decode cX2_remove 21 = .ok (.iload_n 2, 1) := dk_28 (dk_at dksX2_remove_0 21 rfl rfl)
theorem dX2_remove_22 : decode cX2_remove 22 = .ok (.ifCond .eq 8, 3) := dk_153 0 8 (dk_at dksX2_remove_1 0 rfl rfl)
theorem dX2_remove_25 : decode cX2_remove 25 = .ok (.iload_n 2, 1) := dk_28 (dk_at dksX2_remove_1 3 rfl rfl)
theorem dX2_remove_26 : decode cX2_remove 26 = .ok (.iconst 2, 1) := dk_5 (dk_at dksX2_remove_1 4 rfl rfl)
theorem dX2_remove_27 : decode cX2_remove 27 = .ok (.if_icmp .ne 6, 3) := dk_160 0 6 (dk_at dksX2_remove_1 5 rfl rfl)
theorem dX2_remove_30 : decode cX2_remove 30 = .ok (.bipush (-3), 2) := dk_16 253 (dk_at dksX2_remove_1 8 rfl rfl)
theorem dX2_remove_32 : decode cX2_remove 32 = .ok (.ireturn, 1) := dk_172 (dk_at dksX2_remove_1 10 rfl rfl)
theorem dX2_remove_33 : decode cX2_remove 33 = .ok (.aload_n 0, 1) := dk_42 (dk_at dksX2_remove_1 11 rfl rfl)
theorem dX2_remove_34 : decode cX2_remove 34 = .ok (.getfield 22, 3) := dk_180 0 22 (dk_at dksX2_remove_1 12 rfl rfl)
theorem dX2_remove_37 : decode cX2_remove 37 = .ok (.iload_n 1, 1) := dk_27 (dk_at dksX2_remove_1 15 rfl rfl)
theorem dX2_remove_38 : decode cX2_remove 38 = .ok (.iconst 0, 1) := dk_3 (dk_at dksX2_remove_1 16 rfl rfl)
theorem dX2_remove_39 : decode cX2_remove 39 = .ok (.invokestatic 163, 3) := dk_184 0 163 (dk_at dksX2_remove_1 17 rfl rfl)
theorem dX2_remove_42 : decode cX2_remove 42 = .ok (.iconst 0, 1) := dk_3 (dk_at dksX2_remove_1 20 rfl rfl)
theorem dX2_remove_43 : decode cX2_remove 43 = .ok (.iastore, 1) := dk_79 (dk_at dksX2_remove_1 21 rfl rfl)
theorem dX2_remove_44 : decode cX2_remove 44 = .ok (.iload_n 2, 1) := dk_28 (dk_at dksX2_remove_1 22 rfl rfl)
theorem dX2_remove_45 : decode cX2_remove 45 = .ok (.ireturn, 1) := dk_172 (dk_at dksX2_remove_1 23 rfl rfl)
theorem hd_X2_isInstance : (yX2_isInstance.cls ≠ "java/lang/invoke/MethodHandle" ∧ yX2_isInstance.cls ≠ "java/lang/invoke/VarHandle" ∧ (parseMethodDescriptor yX2_isInstance.desc).map (fun d => d.parameters.length) = some 1) := ⟨by decide +kernel, by decide +kernel, by decide +kernel⟩
def t_X2_remove (p1 : Int32) (w0 : TS) : Option (Int32 × TS) := gB2 (t_X2_isInstance p1 w0) fun x2 w1 => if x2 = 0 then some ((-1), w1) else gB2 (t_X2_of p1 (nI 1) w1) fun x5 w4 => gB1 (tLd w4 5 x5) fun x6 => if x6 = 0 then some ((-3), w4) else if x6 = (nI 2) then some ((-3), w4) else gB2 (t_X2_of p1 (nI 0) w4) fun x10 w9 => gB1 (tSt w9 5 x10 (nI 0)) fun w11 => some (x6, w11)
set_option maxHeartbeats 4000000 in
set_option maxRecDepth 100000 in
theorem kt_X2_remove {D : va_G} {dA : Nat → ClassId} {A : Nat → Prop} {K : Nat → Nat} {l : Launch} {wb : gw} {ad : Nat → Nat} (hinj : tInj ad) {h : Nat} (hh : 2 ≤ h) {p1 : Int32} {w0 ww : TS} {rr : Int32} (hf : t_X2_remove p1 w0 = some (rr, ww)) : gMet D dA A K l yX2_remove (ws_ yX2_remove cX2_remove 3 (some .int)) h [(ga (some (ad 0))), (gi p1)] (some (gi rr)) (twOf wb ad w0) (twOf wb ad ww) := by
  refine j_start (own := RX2) (by decide +kernel) rfl (Nat.le_of_ble_eq_true rfl) ?_
  intro p e R s m args below meth c C hr hin hw
  unfold t_X2_remove at hf
  show gJ D dA A K p l e R s m args below meth c (gEnd D dA A K below args s (twOf wb ad w0) (some (gi rr)) (twOf wb ad ww)) 3 0 [(0, (ga (some (ad 0)))), (1, (gi p1))] [] (twOf wb ad w0)
  refine j_aload_n C dX2_remove_0 rfl ?_
  refine j_iload_n C dX2_remove_1 rfl ?_
  replace hf := gB2_e hf
  obtain ⟨x2, w1, ew1, hf⟩ := hf
  refine j_callV (As := [(gi p1)]) (rest := []) (v := (some (gi x2))) C (by omega) (kt_X2_isInstance hinj (by omega) ew1) (tw_cls hinj) rfl q1900 q1902 qs81 q93 q1903 ⟨rfl, hd_X2_isInstance⟩ (by decide) rfl (Nat.le_of_ble_eq_true rfl) dX2_remove_2 ?_
  refine j_if_ne (tgt := 10) C dX2_remove_5 (by decide) (fun c3 => ?_) (fun c3 => ?_)
  · replace hf := gIf_f hf c3
    refine j_aload_n C dX2_remove_10 rfl ?_
    refine j_get (v := (ga (some (ad 5)))) C fl_X2_22_2 dX2_remove_11 (tw_F hinj rfl) ?_
    refine j_iload_n C dX2_remove_14 rfl ?_
    refine j_iconst (v := (nI 1)) C dX2_remove_15 (by decide) ?_
    replace hf := gB2_e hf
    obtain ⟨x5, w4, ew4, hf⟩ := hf
    refine j_callS (As := [(gi p1), (gi (nI 1))]) (rest := [(ga (some (ad 5)))]) (v := (some (gi x5))) C (by omega) (kt_X2_of hinj (by omega) ew4) q1798 q1799 q93 q1800 hd_X2_of (by decide) rfl (Nat.le_of_ble_eq_true rfl) dX2_remove_16 ?_
    replace hf := gB1_e hf
    obtain ⟨x6, ex6, hf⟩ := hf
    refine j_iald C (tw_ld hinj ex6) dX2_remove_19 ?_
    refine j_istore_n (lv' := [(2, (gi x6)), (0, (ga (some (ad 0)))), (1, (gi p1))]) C dX2_remove_20 (by decide) rfl ?_
    refine j_iload_n C dX2_remove_21 rfl ?_
    refine j_if_eq (tgt := 30) C dX2_remove_22 (by decide) (fun c7 => ?_) (fun c7 => ?_)
    · replace hf := gIf_t hf c7
      refine j_bipush (v := (-3)) C dX2_remove_30 (by decide) ?_
      obtain ⟨rfl, rfl⟩ := gSome hf
      exact j_iret C hr hw dX2_remove_32
    · replace hf := gIf_f hf c7
      refine j_iload_n C dX2_remove_25 rfl ?_
      refine j_iconst (v := (nI 2)) C dX2_remove_26 (by decide) ?_
      refine j_icmp_ne (tgt := 33) C dX2_remove_27 (by decide) (fun c8 => ?_) (fun c8 => ?_)
      · replace hf := gIf_f hf c8
        refine j_aload_n C dX2_remove_33 rfl ?_
        refine j_get (v := (ga (some (ad 5)))) C fl_X2_22_2 dX2_remove_34 (tw_F hinj rfl) ?_
        refine j_iload_n C dX2_remove_37 rfl ?_
        refine j_iconst (v := (nI 0)) C dX2_remove_38 (by decide) ?_
        replace hf := gB2_e hf
        obtain ⟨x10, w9, ew9, hf⟩ := hf
        refine j_callS (As := [(gi p1), (gi (nI 0))]) (rest := [(ga (some (ad 5)))]) (v := (some (gi x10))) C (by omega) (kt_X2_of hinj (by omega) ew9) q1798 q1799 q93 q1800 hd_X2_of (by decide) rfl (Nat.le_of_ble_eq_true rfl) dX2_remove_39 ?_
        refine j_iconst (v := (nI 0)) C dX2_remove_42 (by decide) ?_
        replace hf := gB1_e hf
        obtain ⟨w11, ew11, hf⟩ := hf
        refine j_iast C (tw_st hinj ew11) dX2_remove_43 ?_
        refine j_iload_n C dX2_remove_44 rfl ?_
        obtain ⟨rfl, rfl⟩ := gSome hf
        exact j_iret C hr hw dX2_remove_45
      · replace hf := gIf_t hf c8
        refine j_bipush (v := (-3)) C dX2_remove_30 (by decide) ?_
        obtain ⟨rfl, rfl⟩ := gSome hf
        exact j_iret C hr hw dX2_remove_32
  · replace hf := gIf_t hf c3
    refine j_iconst (v := (-1)) C dX2_remove_8 (by decide) ?_
    obtain ⟨rfl, rfl⟩ := gSome hf
    exact j_iret C hr hw dX2_remove_9
def dkwX2_instance_3 : List UInt8 := [184, 0, 38, 153, 0, 18, 42, 180, 0, 22, 27, 4, 28, 96, 184, 0, 163, 46, 167, 0, 4, 2, 172]
abbrev dktX2_instance_3 : List UInt8 := dkwX2_instance_3 ++ []
def dkwX2_instance_2 : List UInt8 := [153, 0, 20, 42, 180, 0, 22, 27, 16, 14, 28, 96, 16, 20, 100, 184, 0, 163, 46, 172, 28, 3, 16, 8]
abbrev dktX2_instance_2 : List UInt8 := dkwX2_instance_2 ++ dktX2_instance_3
def dkwX2_instance_1 : List UInt8 := [180, 0, 22, 27, 16, 10, 28, 96, 16, 10, 100, 184, 0, 163, 46, 172, 28, 16, 20, 16, 27, 184, 0, 38]
abbrev dktX2_instance_1 : List UInt8 := dkwX2_instance_1 ++ dktX2_instance_2
def dkwX2_instance_0 : List UInt8 := [42, 27, 182, 0, 243, 154, 0, 5, 2, 172, 28, 16, 10, 16, 13, 184, 0, 38, 153, 0, 20, 42]
abbrev dktX2_instance_0 : List UInt8 := dkwX2_instance_0 ++ dktX2_instance_1
theorem dksX2_instance_0 : cX2_instance.data.toList.drop 0 = dktX2_instance_0 := by decide +kernel
theorem dksX2_instance_1 : cX2_instance.data.toList.drop 22 = dktX2_instance_1 := dk_seg dksX2_instance_0 22 rfl rfl
theorem dksX2_instance_2 : cX2_instance.data.toList.drop 46 = dktX2_instance_2 := dk_seg dksX2_instance_1 24 rfl rfl
theorem dksX2_instance_3 : cX2_instance.data.toList.drop 70 = dktX2_instance_3 := dk_seg dksX2_instance_2 24 rfl rfl
theorem dX2_instance_0 : decode cX2_instance 0 = .ok (.aload_n 0, 1) := dk_42 (dk_at dksX2_instance_0 0 rfl rfl)
theorem dX2_instance_1 : decode cX2_instance 1 = .ok (.iload_n 1, 1) := dk_27 (dk_at dksX2_instance_0 1 rfl rfl)
theorem dX2_instance_2 : decode cX2_instance 2 = .ok (.invokevirtual 243, 3) := dk_182 0 243 (dk_at dksX2_instance_0 2 rfl rfl)
theorem dX2_instance_5 : decode cX2_instance 5 = .ok (.ifCond .ne 5, 3) := dk_154 0 5 (dk_at dksX2_instance_0 5 rfl rfl)
theorem dX2_instance_8 : decode cX2_instance 8 = .ok (.iconst (-1), 1) := dk_2 (dk_at dksX2_instance_0 8 rfl rfl)
theorem dX2_instance_9 : decode cX2_instance 9 = .ok (.ireturn, 1) := dk_172 (dk_at dksX2_instance_0 9 rfl rfl)
theorem dX2_instance_10 : decode cX2_instance 10 = .ok (.iload_n 2, 1) := dk_28 (dk_at dksX2_instance_0 10 rfl rfl)
theorem dX2_instance_11 : decode cX2_instance 11 = .ok (.bipush 10, 2) := dk_16 10 (dk_at dksX2_instance_0 11 rfl rfl)
theorem dX2_instance_13 : decode cX2_instance 13 = .ok (.bipush 13, 2) := dk_16 13 (dk_at dksX2_instance_0 13 rfl rfl)
theorem dX2_instance_15 : decode cX2_instance 15 = .ok (.invokestatic 38, 3) := dk_184 0 38 (dk_at dksX2_instance_0 15 rfl rfl)
theorem dX2_instance_18 : decode cX2_instance 18 = .ok (.ifCond .eq 20, 3) := dk_153 0 20 (dk_at dksX2_instance_0 18 rfl rfl)
theorem dX2_instance_21 : decode cX2_instance 21 = .ok (.aload_n 0, 1) := dk_42 (dk_at dksX2_instance_0 21 rfl rfl)
theorem dX2_instance_22 : decode cX2_instance 22 = .ok (.getfield 22, 3) := dk_180 0 22 (dk_at dksX2_instance_1 0 rfl rfl)
theorem dX2_instance_25 : decode cX2_instance 25 = .ok (.iload_n 1, 1) := dk_27 (dk_at dksX2_instance_1 3 rfl rfl)
theorem dX2_instance_26 : decode cX2_instance 26 = .ok (.bipush 10, 2) := dk_16 10 (dk_at dksX2_instance_1 4 rfl rfl)
theorem dX2_instance_28 : decode cX2_instance 28 = .ok (.iload_n 2, 1) := dk_28 (dk_at dksX2_instance_1 6 rfl rfl)
theorem dX2_instance_29 : decode cX2_instance 29 = .ok (.iadd, 1) := dk_96 (dk_at dksX2_instance_1 7 rfl rfl)
theorem dX2_instance_30 : decode cX2_instance 30 = .ok (.bipush 10, 2) := dk_16 10 (dk_at dksX2_instance_1 8 rfl rfl)
theorem dX2_instance_32 : decode cX2_instance 32 = .ok (.isub, 1) := dk_100 (dk_at dksX2_instance_1 10 rfl rfl)
theorem dX2_instance_33 : decode cX2_instance 33 = .ok (.invokestatic 163, 3) := dk_184 0 163 (dk_at dksX2_instance_1 11 rfl rfl)
theorem dX2_instance_36 : decode cX2_instance 36 = .ok (.iaload, 1) := dk_46 (dk_at dksX2_instance_1 14 rfl rfl)
theorem dX2_instance_37 : decode cX2_instance 37 = .ok (.ireturn, 1) := dk_172 (dk_at dksX2_instance_1 15 rfl rfl)
theorem dX2_instance_38 : decode cX2_instance 38 = .ok (.iload_n 2, 1) := dk_28 (dk_at dksX2_instance_1 16 rfl rfl)
theorem dX2_instance_39 : decode cX2_instance 39 = .ok (.bipush 20, 2) := dk_16 20 (dk_at dksX2_instance_1 17 rfl rfl)
theorem dX2_instance_41 : decode cX2_instance 41 = .ok (.bipush 27, 2) := dk_16 27 (dk_at dksX2_instance_1 19 rfl rfl)
theorem dX2_instance_43 : decode cX2_instance 43 = .ok (.invokestatic 38, 3) := dk_184 0 38 (dk_at dksX2_instance_1 21 rfl rfl)
theorem dX2_instance_46 : decode cX2_instance 46 = .ok (.ifCond .eq 20, 3) := dk_153 0 20 (dk_at dksX2_instance_2 0 rfl rfl)
theorem dX2_instance_49 : decode cX2_instance 49 = .ok (.aload_n 0, 1) := dk_42 (dk_at dksX2_instance_2 3 rfl rfl)
theorem dX2_instance_50 : decode cX2_instance 50 = .ok (.getfield 22, 3) := dk_180 0 22 (dk_at dksX2_instance_2 4 rfl rfl)
theorem dX2_instance_53 : decode cX2_instance 53 = .ok (.iload_n 1, 1) := dk_27 (dk_at dksX2_instance_2 7 rfl rfl)
theorem dX2_instance_54 : decode cX2_instance 54 = .ok (.bipush 14, 2) := dk_16 14 (dk_at dksX2_instance_2 8 rfl rfl)
theorem dX2_instance_56 : decode cX2_instance 56 = .ok (.iload_n 2, 1) := dk_28 (dk_at dksX2_instance_2 10 rfl rfl)
theorem dX2_instance_57 : decode cX2_instance 57 = .ok (.iadd, 1) := dk_96 (dk_at dksX2_instance_2 11 rfl rfl)
theorem dX2_instance_58 : decode cX2_instance 58 = .ok (.bipush 20, 2) := dk_16 20 (dk_at dksX2_instance_2 12 rfl rfl)
theorem dX2_instance_60 : decode cX2_instance 60 = .ok (.isub, 1) := dk_100 (dk_at dksX2_instance_2 14 rfl rfl)
theorem dX2_instance_61 : decode cX2_instance 61 = .ok (.invokestatic 163, 3) := dk_184 0 163 (dk_at dksX2_instance_2 15 rfl rfl)
theorem dX2_instance_64 : decode cX2_instance 64 = .ok (.iaload, 1) := dk_46 (dk_at dksX2_instance_2 18 rfl rfl)
theorem dX2_instance_65 : decode cX2_instance 65 = .ok (.ireturn, 1) := dk_172 (dk_at dksX2_instance_2 19 rfl rfl)
theorem dX2_instance_66 : decode cX2_instance 66 = .ok (.iload_n 2, 1) := dk_28 (dk_at dksX2_instance_2 20 rfl rfl)
theorem dX2_instance_67 : decode cX2_instance 67 = .ok (.iconst 0, 1) := dk_3 (dk_at dksX2_instance_2 21 rfl rfl)
theorem dX2_instance_68 : decode cX2_instance 68 = .ok (.bipush 8, 2) := dk_16 8 (dk_at dksX2_instance_2 22 rfl rfl)
theorem dX2_instance_70 : decode cX2_instance 70 = .ok (.invokestatic 38, 3) := dk_184 0 38 (dk_at dksX2_instance_3 0 rfl rfl)
theorem dX2_instance_73 : decode cX2_instance 73 = .ok (.ifCond .eq 18, 3) := dk_153 0 18 (dk_at dksX2_instance_3 3 rfl rfl)
theorem dX2_instance_76 : decode cX2_instance 76 = .ok (.aload_n 0, 1) := dk_42 (dk_at dksX2_instance_3 6 rfl rfl)
theorem dX2_instance_77 : decode cX2_instance 77 = .ok (.getfield 22, 3) := dk_180 0 22 (dk_at dksX2_instance_3 7 rfl rfl)
theorem dX2_instance_80 : decode cX2_instance 80 = .ok (.iload_n 1, 1) := dk_27 (dk_at dksX2_instance_3 10 rfl rfl)
theorem dX2_instance_81 : decode cX2_instance 81 = .ok (.iconst 1, 1) := dk_4 (dk_at dksX2_instance_3 11 rfl rfl)
theorem dX2_instance_82 : decode cX2_instance 82 = .ok (.iload_n 2, 1) := dk_28 (dk_at dksX2_instance_3 12 rfl rfl)
theorem dX2_instance_83 : decode cX2_instance 83 = .ok (.iadd, 1) := dk_96 (dk_at dksX2_instance_3 13 rfl rfl)
theorem dX2_instance_84 : decode cX2_instance 84 = .ok (.invokestatic 163, 3) := dk_184 0 163 (dk_at dksX2_instance_3 14 rfl rfl)
theorem dX2_instance_87 : decode cX2_instance 87 = .ok (.iaload, 1) := dk_46 (dk_at dksX2_instance_3 17 rfl rfl)
theorem dX2_instance_88 : decode cX2_instance 88 = .ok (.goto 4, 3) := dk_167 0 4 (dk_at dksX2_instance_3 18 rfl rfl)
theorem dX2_instance_91 : decode cX2_instance 91 = .ok (.iconst (-1), 1) := dk_2 (dk_at dksX2_instance_3 21 rfl rfl)
theorem dX2_instance_92 : decode cX2_instance 92 = .ok (.ireturn, 1) := dk_172 (dk_at dksX2_instance_3 22 rfl rfl)
def t_X2_instance (p1 : Int32) (p2 : Int32) (w0 : TS) : Option (Int32 × TS) := gB2 (t_X2_isInstance p1 w0) fun x2 w1 => if x2 = 0 then some ((-1), w1) else gB2 (t_X2_isIn p2 (nI 10) (nI 13) w1) fun x5 w4 => if x5 = 0 then gB2 (t_X2_isIn p2 (nI 20) (nI 27) w4) fun x8 w7 => if x8 = 0 then gB2 (t_X2_isIn p2 (nI 0) (nI 8) w7) fun x11 w10 => if x11 = 0 then some ((-1), w10) else gB2 (t_X2_of p1 ((nI 1) + p2) w10) fun x14 w13 => gB1 (tLd w13 5 x14) fun x15 => some (x15, w13) else gB2 (t_X2_of p1 (((nI 14) + p2) - (nI 20)) w7) fun x17 w16 => gB1 (tLd w16 5 x17) fun x18 => some (x18, w16) else gB2 (t_X2_of p1 (((nI 10) + p2) - (nI 10)) w4) fun x20 w19 => gB1 (tLd w19 5 x20) fun x21 => some (x21, w19)
set_option maxHeartbeats 4000000 in
set_option maxRecDepth 100000 in
theorem kt_X2_instance {D : va_G} {dA : Nat → ClassId} {A : Nat → Prop} {K : Nat → Nat} {l : Launch} {wb : gw} {ad : Nat → Nat} (hinj : tInj ad) {h : Nat} (hh : 2 ≤ h) {p1 : Int32} {p2 : Int32} {w0 ww : TS} {rr : Int32} (hf : t_X2_instance p1 p2 w0 = some (rr, ww)) : gMet D dA A K l yX2_instance (ws_ yX2_instance cX2_instance 3 (some .int)) h [(ga (some (ad 0))), (gi p1), (gi p2)] (some (gi rr)) (twOf wb ad w0) (twOf wb ad ww) := by
  refine j_start (own := RX2) (by decide +kernel) rfl (Nat.le_of_ble_eq_true rfl) ?_
  intro p e R s m args below meth c C hr hin hw
  unfold t_X2_instance at hf
  show gJ D dA A K p l e R s m args below meth c (gEnd D dA A K below args s (twOf wb ad w0) (some (gi rr)) (twOf wb ad ww)) 3 0 [(0, (ga (some (ad 0)))), (1, (gi p1)), (2, (gi p2))] [] (twOf wb ad w0)
  refine j_aload_n C dX2_instance_0 rfl ?_
  refine j_iload_n C dX2_instance_1 rfl ?_
  replace hf := gB2_e hf
  obtain ⟨x2, w1, ew1, hf⟩ := hf
  refine j_callV (As := [(gi p1)]) (rest := []) (v := (some (gi x2))) C (by omega) (kt_X2_isInstance hinj (by omega) ew1) (tw_cls hinj) rfl q1900 q1902 qs81 q93 q1903 ⟨rfl, hd_X2_isInstance⟩ (by decide) rfl (Nat.le_of_ble_eq_true rfl) dX2_instance_2 ?_
  refine j_if_ne (tgt := 10) C dX2_instance_5 (by decide) (fun c3 => ?_) (fun c3 => ?_)
  · replace hf := gIf_f hf c3
    refine j_iload_n C dX2_instance_10 rfl ?_
    refine j_bipush (v := (nI 10)) C dX2_instance_11 (by decide) ?_
    refine j_bipush (v := (nI 13)) C dX2_instance_13 (by decide) ?_
    replace hf := gB2_e hf
    obtain ⟨x5, w4, ew4, hf⟩ := hf
    refine j_callS (As := [(gi p2), (gi (nI 10)), (gi (nI 13))]) (rest := []) (v := (some (gi x5))) C (by omega) (kt_X2_isIn hinj (by omega) ew4) q1662 q1663 q93 q1664 hd_X2_isIn (by decide) rfl (Nat.le_of_ble_eq_true rfl) dX2_instance_15 ?_
    refine j_if_eq (tgt := 38) C dX2_instance_18 (by decide) (fun c6 => ?_) (fun c6 => ?_)
    · replace hf := gIf_t hf c6
      refine j_iload_n C dX2_instance_38 rfl ?_
      refine j_bipush (v := (nI 20)) C dX2_instance_39 (by decide) ?_
      refine j_bipush (v := (nI 27)) C dX2_instance_41 (by decide) ?_
      replace hf := gB2_e hf
      obtain ⟨x8, w7, ew7, hf⟩ := hf
      refine j_callS (As := [(gi p2), (gi (nI 20)), (gi (nI 27))]) (rest := []) (v := (some (gi x8))) C (by omega) (kt_X2_isIn hinj (by omega) ew7) q1662 q1663 q93 q1664 hd_X2_isIn (by decide) rfl (Nat.le_of_ble_eq_true rfl) dX2_instance_43 ?_
      refine j_if_eq (tgt := 66) C dX2_instance_46 (by decide) (fun c9 => ?_) (fun c9 => ?_)
      · replace hf := gIf_t hf c9
        refine j_iload_n C dX2_instance_66 rfl ?_
        refine j_iconst (v := (nI 0)) C dX2_instance_67 (by decide) ?_
        refine j_bipush (v := (nI 8)) C dX2_instance_68 (by decide) ?_
        replace hf := gB2_e hf
        obtain ⟨x11, w10, ew10, hf⟩ := hf
        refine j_callS (As := [(gi p2), (gi (nI 0)), (gi (nI 8))]) (rest := []) (v := (some (gi x11))) C (by omega) (kt_X2_isIn hinj (by omega) ew10) q1662 q1663 q93 q1664 hd_X2_isIn (by decide) rfl (Nat.le_of_ble_eq_true rfl) dX2_instance_70 ?_
        refine j_if_eq (tgt := 91) C dX2_instance_73 (by decide) (fun c12 => ?_) (fun c12 => ?_)
        · replace hf := gIf_t hf c12
          refine j_iconst (v := (-1)) C dX2_instance_91 (by decide) ?_
          obtain ⟨rfl, rfl⟩ := gSome hf
          exact j_iret C hr hw dX2_instance_92
        · replace hf := gIf_f hf c12
          refine j_aload_n C dX2_instance_76 rfl ?_
          refine j_get (v := (ga (some (ad 5)))) C fl_X2_22_2 dX2_instance_77 (tw_F hinj rfl) ?_
          refine j_iload_n C dX2_instance_80 rfl ?_
          refine j_iconst (v := (nI 1)) C dX2_instance_81 (by decide) ?_
          refine j_iload_n C dX2_instance_82 rfl ?_
          refine j_iadd C dX2_instance_83 ?_
          replace hf := gB2_e hf
          obtain ⟨x14, w13, ew13, hf⟩ := hf
          refine j_callS (As := [(gi p1), (gi ((nI 1) + p2))]) (rest := [(ga (some (ad 5)))]) (v := (some (gi x14))) C (by omega) (kt_X2_of hinj (by omega) ew13) q1798 q1799 q93 q1800 hd_X2_of (by decide) rfl (Nat.le_of_ble_eq_true rfl) dX2_instance_84 ?_
          replace hf := gB1_e hf
          obtain ⟨x15, ex15, hf⟩ := hf
          refine j_iald C (tw_ld hinj ex15) dX2_instance_87 ?_
          refine j_goto (tgt := 92) C dX2_instance_88 (by decide) ?_
          obtain ⟨rfl, rfl⟩ := gSome hf
          exact j_iret C hr hw dX2_instance_92
      · replace hf := gIf_f hf c9
        refine j_aload_n C dX2_instance_49 rfl ?_
        refine j_get (v := (ga (some (ad 5)))) C fl_X2_22_2 dX2_instance_50 (tw_F hinj rfl) ?_
        refine j_iload_n C dX2_instance_53 rfl ?_
        refine j_bipush (v := (nI 14)) C dX2_instance_54 (by decide) ?_
        refine j_iload_n C dX2_instance_56 rfl ?_
        refine j_iadd C dX2_instance_57 ?_
        refine j_bipush (v := (nI 20)) C dX2_instance_58 (by decide) ?_
        refine j_isub C dX2_instance_60 ?_
        replace hf := gB2_e hf
        obtain ⟨x17, w16, ew16, hf⟩ := hf
        refine j_callS (As := [(gi p1), (gi (((nI 14) + p2) - (nI 20)))]) (rest := [(ga (some (ad 5)))]) (v := (some (gi x17))) C (by omega) (kt_X2_of hinj (by omega) ew16) q1798 q1799 q93 q1800 hd_X2_of (by decide) rfl (Nat.le_of_ble_eq_true rfl) dX2_instance_61 ?_
        replace hf := gB1_e hf
        obtain ⟨x18, ex18, hf⟩ := hf
        refine j_iald C (tw_ld hinj ex18) dX2_instance_64 ?_
        obtain ⟨rfl, rfl⟩ := gSome hf
        exact j_iret C hr hw dX2_instance_65
    · replace hf := gIf_f hf c6
      refine j_aload_n C dX2_instance_21 rfl ?_
      refine j_get (v := (ga (some (ad 5)))) C fl_X2_22_2 dX2_instance_22 (tw_F hinj rfl) ?_
      refine j_iload_n C dX2_instance_25 rfl ?_
      refine j_bipush (v := (nI 10)) C dX2_instance_26 (by decide) ?_
      refine j_iload_n C dX2_instance_28 rfl ?_
      refine j_iadd C dX2_instance_29 ?_
      refine j_bipush (v := (nI 10)) C dX2_instance_30 (by decide) ?_
      refine j_isub C dX2_instance_32 ?_
      replace hf := gB2_e hf
      obtain ⟨x20, w19, ew19, hf⟩ := hf
      refine j_callS (As := [(gi p1), (gi (((nI 10) + p2) - (nI 10)))]) (rest := [(ga (some (ad 5)))]) (v := (some (gi x20))) C (by omega) (kt_X2_of hinj (by omega) ew19) q1798 q1799 q93 q1800 hd_X2_of (by decide) rfl (Nat.le_of_ble_eq_true rfl) dX2_instance_33 ?_
      replace hf := gB1_e hf
      obtain ⟨x21, ex21, hf⟩ := hf
      refine j_iald C (tw_ld hinj ex21) dX2_instance_36 ?_
      obtain ⟨rfl, rfl⟩ := gSome hf
      exact j_iret C hr hw dX2_instance_37
  · replace hf := gIf_t hf c3
    refine j_iconst (v := (-1)) C dX2_instance_8 (by decide) ?_
    obtain ⟨rfl, rfl⟩ := gSome hf
    exact j_iret C hr hw dX2_instance_9
def dkwX2_keptEntries_0 : List UInt8 := [17, 0, 200, 42, 180, 0, 22, 27, 16, 9, 184, 0, 163, 46, 184, 0, 250, 172]
abbrev dktX2_keptEntries_0 : List UInt8 := dkwX2_keptEntries_0 ++ []
theorem dksX2_keptEntries_0 : cX2_keptEntries.data.toList.drop 0 = dktX2_keptEntries_0 := by decide +kernel
theorem dX2_keptEntries_0 : decode cX2_keptEntries 0 = .ok (.sipush 200, 3) := dk_17 0 200 (dk_at dksX2_keptEntries_0 0 rfl rfl)
theorem dX2_keptEntries_3 : decode cX2_keptEntries 3 = .ok (.aload_n 0, 1) := dk_42 (dk_at dksX2_keptEntries_0 3 rfl rfl)
theorem dX2_keptEntries_4 : decode cX2_keptEntries 4 = .ok (.getfield 22, 3) := dk_180 0 22 (dk_at dksX2_keptEntries_0 4 rfl rfl)
theorem dX2_keptEntries_7 : decode cX2_keptEntries 7 = .ok (.iload_n 1, 1) := dk_27 (dk_at dksX2_keptEntries_0 7 rfl rfl)
theorem dX2_keptEntries_8 : decode cX2_keptEntries 8 = .ok (.bipush 9, 2) := dk_16 9 (dk_at dksX2_keptEntries_0 8 rfl rfl)
theorem dX2_keptEntries_10 : decode cX2_keptEntries 10 = .ok (.invokestatic 163, 3) := dk_184 0 163 (dk_at dksX2_keptEntries_0 10 rfl rfl)
theorem dX2_keptEntries_13 : decode cX2_keptEntries 13 = .ok (.iaload, 1) := dk_46 (dk_at dksX2_keptEntries_0 13 rfl rfl)
theorem dX2_keptEntries_14 : decode cX2_keptEntries 14 = .ok (.invokestatic 250, 3) := dk_184 0 250 (dk_at dksX2_keptEntries_0 14 rfl rfl)
theorem dX2_keptEntries_17 : decode cX2_keptEntries 17 = .ok (.ireturn, 1) := dk_172 (dk_at dksX2_keptEntries_0 17 rfl rfl)
def t_X2_keptEntries (p1 : Int32) (w0 : TS) : Option (Int32 × TS) := gB2 (t_X2_of p1 (nI 9) w0) fun x2 w1 => gB1 (tLd w1 5 x2) fun x3 => gB2 (t_J6_min (nI 200) x3 w1) fun x5 w4 => some (x5, w4)
set_option maxHeartbeats 4000000 in
set_option maxRecDepth 100000 in
theorem kt_X2_keptEntries {D : va_G} {dA : Nat → ClassId} {A : Nat → Prop} {K : Nat → Nat} {l : Launch} {wb : gw} {ad : Nat → Nat} (hinj : tInj ad) {h : Nat} (hh : 1 ≤ h) {p1 : Int32} {w0 ww : TS} {rr : Int32} (hf : t_X2_keptEntries p1 w0 = some (rr, ww)) : gMet D dA A K l yX2_keptEntries (ws_ yX2_keptEntries cX2_keptEntries 2 (some .int)) h [(ga (some (ad 0))), (gi p1)] (some (gi rr)) (twOf wb ad w0) (twOf wb ad ww) := by
  refine j_start (own := RX2) (by decide +kernel) rfl (Nat.le_of_ble_eq_true rfl) ?_
  intro p e R s m args below meth c C hr hin hw
  unfold t_X2_keptEntries at hf
  show gJ D dA A K p l e R s m args below meth c (gEnd D dA A K below args s (twOf wb ad w0) (some (gi rr)) (twOf wb ad ww)) 2 0 [(0, (ga (some (ad 0)))), (1, (gi p1))] [] (twOf wb ad w0)
  refine j_sipush (v := (nI 200)) C dX2_keptEntries_0 (by decide) ?_
  refine j_aload_n C dX2_keptEntries_3 rfl ?_
  refine j_get (v := (ga (some (ad 5)))) C fl_X2_22_2 dX2_keptEntries_4 (tw_F hinj rfl) ?_
  refine j_iload_n C dX2_keptEntries_7 rfl ?_
  refine j_bipush (v := (nI 9)) C dX2_keptEntries_8 (by decide) ?_
  replace hf := gB2_e hf
  obtain ⟨x2, w1, ew1, hf⟩ := hf
  refine j_callS (As := [(gi p1), (gi (nI 9))]) (rest := [(ga (some (ad 5))), (gi (nI 200))]) (v := (some (gi x2))) C (by omega) (kt_X2_of hinj (by omega) ew1) q1798 q1799 q93 q1800 hd_X2_of (by decide) rfl (Nat.le_of_ble_eq_true rfl) dX2_keptEntries_10 ?_
  replace hf := gB1_e hf
  obtain ⟨x3, ex3, hf⟩ := hf
  refine j_iald C (tw_ld hinj ex3) dX2_keptEntries_13 ?_
  replace hf := gB2_e hf
  obtain ⟨x5, w4, ew4, hf⟩ := hf
  refine j_callS (As := [(gi (nI 200)), (gi x3)]) (rest := []) (v := (some (gi x5))) C (by omega) (kt_J6_min hinj (by omega) ew4) q1933 q552 q111 q553 hd_J6_min (by decide) rfl (Nat.le_of_ble_eq_true rfl) dX2_keptEntries_14 ?_
  obtain ⟨rfl, rfl⟩ := gSome hf
  exact j_iret C hr hw dX2_keptEntries_17
def dkwX2_copies_0 : List UInt8 := [3, 62, 29, 28, 162, 0, 15, 43, 29, 42, 29, 46, 79, 132, 3, 1, 167, 255, 242, 177]
abbrev dktX2_copies_0 : List UInt8 := dkwX2_copies_0 ++ []
theorem dksX2_copies_0 : cX2_copies.data.toList.drop 0 = dktX2_copies_0 := by decide +kernel
theorem dX2_copies_0 : decode cX2_copies 0 = .ok (.iconst 0, 1) := dk_3 (dk_at dksX2_copies_0 0 rfl rfl)
theorem dX2_copies_1 : decode cX2_copies 1 = .ok (.istore_n 3, 1) := dk_62 (dk_at dksX2_copies_0 1 rfl rfl)
theorem dX2_copies_2 : decode cX2_copies 2 = .ok (.iload_n 3, 1) := dk_29 (dk_at dksX2_copies_0 2 rfl rfl)
theorem dX2_copies_3 : decode cX2_copies 3 = .ok (.iload_n 2, 1) := dk_28 (dk_at dksX2_copies_0 3 rfl rfl)
theorem dX2_copies_4 : decode cX2_copies 4 = .ok (.if_icmp .ge 15, 3) := dk_162 0 15 (dk_at dksX2_copies_0 4 rfl rfl)
theorem dX2_copies_7 : decode cX2_copies 7 = .ok (.aload_n 1, 1) := dk_43 (dk_at dksX2_copies_0 7 rfl rfl)
theorem dX2_copies_8 : decode cX2_copies 8 = .ok (.iload_n 3, 1) := dk_29 (dk_at dksX2_copies_0 8 rfl rfl)
theorem dX2_copies_9 : decode cX2_copies 9 = .ok (.aload_n 0, 1) := dk_42 (dk_at dksX2_copies_0 9 rfl rfl)
theorem dX2_copies_10 : decode cX2_copies 10 = .ok (.iload_n 3, 1) := dk_29 (dk_at dksX2_copies_0 10 rfl rfl)
theorem dX2_copies_11 : decode cX2_copies 11 = .ok (.iaload, 1) := dk_46 (dk_at dksX2_copies_0 11 rfl rfl)
theorem dX2_copies_12 : decode cX2_copies 12 = .ok (.iastore, 1) := dk_79 (dk_at dksX2_copies_0 12 rfl rfl)
theorem dX2_copies_13 : decode cX2_copies 13 = .ok (.iinc 3 1, 3) := dk_132 3 1 (dk_at dksX2_copies_0 13 rfl rfl)
theorem dX2_copies_16 : decode cX2_copies 16 = .ok (.goto (-14), 3) := dk_167 255 242 (dk_at dksX2_copies_0 16 rfl rfl)
theorem dX2_copies_19 : decode cX2_copies 19 = .ok (.return_, 1) := dk_177 (dk_at dksX2_copies_0 19 rfl rfl)
def t_X2_copies (p0 : Nat) (p1 : Nat) (p2 : Int32) (w0 : TS) : Option (Unit × TS) := gL4 (fun k6 (r2 : Nat) (r3 : Nat) (x4 : Int32) (x5 : Int32) (w1 : TS) => if x4 ≤ x5 then some ((), w1) else gB1 (tLd w1 r2 x5) fun x8 => gB1 (tSt w1 r3 x5 x8) fun w9 => gBd (x5 + (nI 1)) fun x10 => k6 r2 r3 x4 x10 w9) 20000 p0 p1 p2 (nI 0) w0
set_option maxHeartbeats 4000000 in
set_option maxRecDepth 100000 in
theorem kt_X2_copies {D : va_G} {dA : Nat → ClassId} {A : Nat → Prop} {K : Nat → Nat} {l : Launch} {wb : gw} {ad : Nat → Nat} (hinj : tInj ad) {h : Nat} (hh : 0 ≤ h) {p0 : Nat} {p1 : Nat} {p2 : Int32} {w0 ww : TS} {rr : Unit} (hf : t_X2_copies p0 p1 p2 w0 = some (rr, ww)) : gMet D dA A K l yX2_copies (ws_ yX2_copies cX2_copies 4 none) h [(ga (some (ad p0))), (ga (some (ad p1))), (gi p2)] none (twOf wb ad w0) (twOf wb ad ww) := by
  refine j_start (own := RX2) (by decide +kernel) rfl (Nat.le_of_ble_eq_true rfl) ?_
  intro p e R s m args below meth c C hr hin hw
  unfold t_X2_copies at hf
  show gJ D dA A K p l e R s m args below meth c (gEnd D dA A K below args s (twOf wb ad w0) none (twOf wb ad ww)) 4 0 [(0, (ga (some (ad p0)))), (1, (ga (some (ad p1)))), (2, (gi p2))] [] (twOf wb ad w0)
  refine j_iconst (v := (nI 0)) C dX2_copies_0 (by decide) ?_
  refine j_istore_n (lv' := [(3, (gi (nI 0))), (0, (ga (some (ad p0)))), (1, (ga (some (ad p1)))), (2, (gi p2))]) C dX2_copies_1 (by decide) rfl ?_
  refine j_sub (lv' := [(0, (ga (some (ad p0)))), (1, (ga (some (ad p1)))), (2, (gi p2)), (3, (gi (nI 0)))]) (gL_cons rfl (gL_cons rfl (gL_cons rfl (gL_cons rfl (gL_nil))))) ?_
  refine gL4_e (fun (r2 : Nat) (r3 : Nat) (x4 : Int32) (x5 : Int32) (w1 : TS) => gJ D dA A K p l e R s m args below meth c (gEnd D dA A K below args s (twOf wb ad w0) none (twOf wb ad ww)) 4 2 [(0, (ga (some (ad r2)))), (1, (ga (some (ad r3)))), (2, (gi x4)), (3, (gi x5))] [] (twOf wb ad w1)) ?_ _ _ _ _ _ _ hf
  intro k6 jk6 r2 r3 x4 x5 w1 hf
  refine j_iload_n C dX2_copies_2 rfl ?_
  refine j_iload_n C dX2_copies_3 rfl ?_
  refine j_icmp_ge (tgt := 19) C dX2_copies_4 (by decide) (fun c7 => ?_) (fun c7 => ?_)
  · replace hf := gIf_t hf c7
    obtain ⟨rfl, rfl⟩ := gSome hf
    exact j_vret C hr hw dX2_copies_19
  · replace hf := gIf_f hf c7
    refine j_aload_n C dX2_copies_7 rfl ?_
    refine j_iload_n C dX2_copies_8 rfl ?_
    refine j_aload_n C dX2_copies_9 rfl ?_
    refine j_iload_n C dX2_copies_10 rfl ?_
    replace hf := gB1_e hf
    obtain ⟨x8, ex8, hf⟩ := hf
    refine j_iald C (tw_ld hinj ex8) dX2_copies_11 ?_
    replace hf := gB1_e hf
    obtain ⟨w9, ew9, hf⟩ := hf
    refine j_iast C (tw_st hinj ew9) dX2_copies_12 ?_
    replace hf := gBd_x hf
    obtain ⟨x10, ex10, hf⟩ := hf
    refine j_iinc (v := x10) (lv' := [(3, (gi x10)), (0, (ga (some (ad r2)))), (1, (ga (some (ad r3)))), (2, (gi x4))]) C dX2_copies_13 rfl (by rw [ex10]; rfl) (by decide) rfl ?_
    refine j_goto (tgt := 2) C dX2_copies_16 (by decide) ?_
    refine j_sub (lv' := [(0, (ga (some (ad r2)))), (1, (ga (some (ad r3)))), (2, (gi x4)), (3, (gi x10))]) (gL_cons rfl (gL_cons rfl (gL_cons rfl (gL_cons rfl (gL_nil))))) ?_
    exact jk6 _ _ _ _ _ hf
def dkwX2_entriesOf_2 : List UInt8 := [167, 255, 213, 29, 172]
abbrev dktX2_entriesOf_2 : List UInt8 := dkwX2_entriesOf_2 ++ []
def dkwX2_entriesOf_1 : List UInt8 := [21, 4, 104, 96, 4, 96, 184, 0, 163, 46, 28, 160, 0, 7, 4, 167, 0, 4, 3, 96, 62, 132, 4, 1]
abbrev dktX2_entriesOf_1 : List UInt8 := dkwX2_entriesOf_1 ++ dktX2_entriesOf_2
def dkwX2_entriesOf_0 : List UInt8 := [3, 62, 3, 54, 4, 21, 4, 42, 27, 182, 0, 253, 162, 0, 39, 29, 42, 180, 0, 22, 27, 16, 22, 6]
abbrev dktX2_entriesOf_0 : List UInt8 := dkwX2_entriesOf_0 ++ dktX2_entriesOf_1
theorem dksX2_entriesOf_0 : cX2_entriesOf.data.toList.drop 0 = dktX2_entriesOf_0 := by decide +kernel
theorem dksX2_entriesOf_1 : cX2_entriesOf.data.toList.drop 24 = dktX2_entriesOf_1 := dk_seg dksX2_entriesOf_0 24 rfl rfl
theorem dksX2_entriesOf_2 : cX2_entriesOf.data.toList.drop 48 = dktX2_entriesOf_2 := dk_seg dksX2_entriesOf_1 24 rfl rfl
theorem dX2_entriesOf_0 : decode cX2_entriesOf 0 = .ok (.iconst 0, 1) := dk_3 (dk_at dksX2_entriesOf_0 0 rfl rfl)
theorem dX2_entriesOf_1 : decode cX2_entriesOf 1 = .ok (.istore_n 3, 1) := dk_62 (dk_at dksX2_entriesOf_0 1 rfl rfl)
theorem dX2_entriesOf_2 : decode cX2_entriesOf 2 = .ok (.iconst 0, 1) := dk_3 (dk_at dksX2_entriesOf_0 2 rfl rfl)
theorem dX2_entriesOf_3 : decode cX2_entriesOf 3 = .ok (.istore 4, 2) := dk_54 4 (dk_at dksX2_entriesOf_0 3 rfl rfl)
theorem dX2_entriesOf_5 : decode cX2_entriesOf 5 = .ok (.iload 4, 2) := dk_21 4 (dk_at dksX2_entriesOf_0 5 rfl rfl)
theorem dX2_entriesOf_7 : decode cX2_entriesOf 7 = .ok (.aload_n 0, 1) := dk_42 (dk_at dksX2_entriesOf_0 7 rfl rfl)
theorem dX2_entriesOf_8 : decode cX2_entriesOf 8 = .ok (.iload_n 1, 1) := dk_27 (dk_at dksX2_entriesOf_0 8 rfl rfl)
theorem dX2_entriesOf_9 : decode cX2_entriesOf 9 = .ok (.invokevirtual 253, 3) := dk_182 0 253 (dk_at dksX2_entriesOf_0 9 rfl rfl)
theorem dX2_entriesOf_12 : decode cX2_entriesOf 12 = .ok (.if_icmp .ge 39, 3) := dk_162 0 39 (dk_at dksX2_entriesOf_0 12 rfl rfl)
theorem dX2_entriesOf_15 : decode cX2_entriesOf 15 = .ok (.iload_n 3, 1) := dk_29 (dk_at dksX2_entriesOf_0 15 rfl rfl)
theorem dX2_entriesOf_16 : decode cX2_entriesOf 16 = .ok (.aload_n 0, 1) := dk_42 (dk_at dksX2_entriesOf_0 16 rfl rfl)
theorem dX2_entriesOf_17 : decode cX2_entriesOf 17 = .ok (.getfield 22, 3) := dk_180 0 22 (dk_at dksX2_entriesOf_0 17 rfl rfl)
theorem dX2_entriesOf_20 : decode cX2_entriesOf 20 = .ok (.iload_n 1, 1) := dk_27 (dk_at dksX2_entriesOf_0 20 rfl rfl)
theorem dX2_entriesOf_21 : decode cX2_entriesOf 21 = .ok (.bipush 22, 2) := dk_16 22 (dk_at dksX2_entriesOf_0 21 rfl rfl)
theorem dX2_entriesOf_23 : decode cX2_entriesOf 23 = .ok (.iconst 3, 1) := dk_6 (dk_at dksX2_entriesOf_0 23 rfl rfl)
theorem dX2_entriesOf_24 : decode cX2_entriesOf 24 = .ok (.iload 4, 2) := dk_21 4 (dk_at dksX2_entriesOf_1 0 rfl rfl)
theorem dX2_entriesOf_26 : decode cX2_entriesOf 26 = .ok (.imul, 1) := dk_104 (dk_at dksX2_entriesOf_1 2 rfl rfl)
theorem dX2_entriesOf_27 : decode cX2_entriesOf 27 = .ok (.iadd, 1) := dk_96 (dk_at dksX2_entriesOf_1 3 rfl rfl)
theorem dX2_entriesOf_28 : decode cX2_entriesOf 28 = .ok (.iconst 1, 1) := dk_4 (dk_at dksX2_entriesOf_1 4 rfl rfl)
theorem dX2_entriesOf_29 : decode cX2_entriesOf 29 = .ok (.iadd, 1) := dk_96 (dk_at dksX2_entriesOf_1 5 rfl rfl)
theorem dX2_entriesOf_30 : decode cX2_entriesOf 30 = .ok (.invokestatic 163, 3) := dk_184 0 163 (dk_at dksX2_entriesOf_1 6 rfl rfl)
theorem dX2_entriesOf_33 : decode cX2_entriesOf 33 = .ok (.iaload, 1) := dk_46 (dk_at dksX2_entriesOf_1 9 rfl rfl)
theorem dX2_entriesOf_34 : decode cX2_entriesOf 34 = .ok (.iload_n 2, 1) := dk_28 (dk_at dksX2_entriesOf_1 10 rfl rfl)
theorem dX2_entriesOf_35 : decode cX2_entriesOf 35 = .ok (.if_icmp .ne 7, 3) := dk_160 0 7 (dk_at dksX2_entriesOf_1 11 rfl rfl)
theorem dX2_entriesOf_38 : decode cX2_entriesOf 38 = .ok (.iconst 1, 1) := dk_4 (dk_at dksX2_entriesOf_1 14 rfl rfl)
theorem dX2_entriesOf_39 : decode cX2_entriesOf 39 = .ok (.goto 4, 3) := dk_167 0 4 (dk_at dksX2_entriesOf_1 15 rfl rfl)
theorem dX2_entriesOf_42 : decode cX2_entriesOf 42 = .ok (.iconst 0, 1) := dk_3 (dk_at dksX2_entriesOf_1 18 rfl rfl)
theorem dX2_entriesOf_43 : decode cX2_entriesOf 43 = .ok (.iadd, 1) := dk_96 (dk_at dksX2_entriesOf_1 19 rfl rfl)
theorem dX2_entriesOf_44 : decode cX2_entriesOf 44 = .ok (.istore_n 3, 1) := dk_62 (dk_at dksX2_entriesOf_1 20 rfl rfl)
theorem dX2_entriesOf_45 : decode cX2_entriesOf 45 = .ok (.iinc 4 1, 3) := dk_132 4 1 (dk_at dksX2_entriesOf_1 21 rfl rfl)
theorem dX2_entriesOf_48 : decode cX2_entriesOf 48 = .ok (.goto (-43), 3) := dk_167 255 213 (dk_at dksX2_entriesOf_2 0 rfl rfl)
theorem dX2_entriesOf_51 : decode cX2_entriesOf 51 = .ok (.iload_n 3, 1) := dk_29 (dk_at dksX2_entriesOf_2 3 rfl rfl)
theorem dX2_entriesOf_52 : decode cX2_entriesOf 52 = .ok (.ireturn, 1) := dk_172 (dk_at dksX2_entriesOf_2 4 rfl rfl)
theorem hd_X2_keptEntries : (yX2_keptEntries.cls ≠ "java/lang/invoke/MethodHandle" ∧ yX2_keptEntries.cls ≠ "java/lang/invoke/VarHandle" ∧ (parseMethodDescriptor yX2_keptEntries.desc).map (fun d => d.parameters.length) = some 1) := ⟨by decide +kernel, by decide +kernel, by decide +kernel⟩
def t_X2_entriesOf (p1 : Int32) (p2 : Int32) (w0 : TS) : Option (Int32 × TS) := gL4 (fun k6 (x2 : Int32) (x3 : Int32) (x4 : Int32) (x5 : Int32) (w1 : TS) => gB2 (t_X2_keptEntries x2 w1) fun x8 w7 => if x8 ≤ x5 then some (x4, w7) else gB2 (t_X2_of x2 (((nI 22) + ((nI 3) * x5)) + (nI 1)) w7) fun x11 w10 => gB1 (tLd w10 5 x11) fun x12 => gBd (fun (x15 : Int32) (x16 : Int32) (x17 : Int32) (x18 : Int32) (x19 : Int32) (w14 : TS) => gBd (x18 + x19) fun x20 => gBd (x17 + (nI 1)) fun x21 => k6 x15 x16 x20 x21 w14) fun k13 => if x12 = x3 then k13 x2 x3 x5 x4 (nI 1) w10 else k13 x2 x3 x5 x4 (nI 0) w10) 20000 p1 p2 (nI 0) (nI 0) w0
set_option maxHeartbeats 4000000 in
set_option maxRecDepth 100000 in
theorem kt_X2_entriesOf {D : va_G} {dA : Nat → ClassId} {A : Nat → Prop} {K : Nat → Nat} {l : Launch} {wb : gw} {ad : Nat → Nat} (hinj : tInj ad) {h : Nat} (hh : 2 ≤ h) {p1 : Int32} {p2 : Int32} {w0 ww : TS} {rr : Int32} (hf : t_X2_entriesOf p1 p2 w0 = some (rr, ww)) : gMet D dA A K l yX2_entriesOf (ws_ yX2_entriesOf cX2_entriesOf 5 (some .int)) h [(ga (some (ad 0))), (gi p1), (gi p2)] (some (gi rr)) (twOf wb ad w0) (twOf wb ad ww) := by
  refine j_start (own := RX2) (by decide +kernel) rfl (Nat.le_of_ble_eq_true rfl) ?_
  intro p e R s m args below meth c C hr hin hw
  unfold t_X2_entriesOf at hf
  show gJ D dA A K p l e R s m args below meth c (gEnd D dA A K below args s (twOf wb ad w0) (some (gi rr)) (twOf wb ad ww)) 5 0 [(0, (ga (some (ad 0)))), (1, (gi p1)), (2, (gi p2))] [] (twOf wb ad w0)
  refine j_iconst (v := (nI 0)) C dX2_entriesOf_0 (by decide) ?_
  refine j_istore_n (lv' := [(3, (gi (nI 0))), (0, (ga (some (ad 0)))), (1, (gi p1)), (2, (gi p2))]) C dX2_entriesOf_1 (by decide) rfl ?_
  refine j_iconst (v := (nI 0)) C dX2_entriesOf_2 (by decide) ?_
  refine j_istore (lv' := [(4, (gi (nI 0))), (3, (gi (nI 0))), (0, (ga (some (ad 0)))), (1, (gi p1)), (2, (gi p2))]) C dX2_entriesOf_3 (by decide) rfl ?_
  refine j_sub (lv' := [(0, (ga (some (ad 0)))), (1, (gi p1)), (2, (gi p2)), (3, (gi (nI 0))), (4, (gi (nI 0)))]) (gL_cons rfl (gL_cons rfl (gL_cons rfl (gL_cons rfl (gL_cons rfl (gL_nil)))))) ?_
  refine gL4_e (fun (x2 : Int32) (x3 : Int32) (x4 : Int32) (x5 : Int32) (w1 : TS) => gJ D dA A K p l e R s m args below meth c (gEnd D dA A K below args s (twOf wb ad w0) (some (gi rr)) (twOf wb ad ww)) 5 5 [(0, (ga (some (ad 0)))), (1, (gi x2)), (2, (gi x3)), (3, (gi x4)), (4, (gi x5))] [] (twOf wb ad w1)) ?_ _ _ _ _ _ _ hf
  intro k6 jk6 x2 x3 x4 x5 w1 hf
  refine j_iload C dX2_entriesOf_5 rfl ?_
  refine j_aload_n C dX2_entriesOf_7 rfl ?_
  refine j_iload_n C dX2_entriesOf_8 rfl ?_
  replace hf := gB2_e hf
  obtain ⟨x8, w7, ew7, hf⟩ := hf
  refine j_callV (As := [(gi x2)]) (rest := [(gi x5)]) (v := (some (gi x8))) C (by omega) (kt_X2_keptEntries hinj (by omega) ew7) (tw_cls hinj) rfl q1929 q1931 qs83 q93 q1932 ⟨rfl, hd_X2_keptEntries⟩ (by decide) rfl (Nat.le_of_ble_eq_true rfl) dX2_entriesOf_9 ?_
  refine j_icmp_ge (tgt := 51) C dX2_entriesOf_12 (by decide) (fun c9 => ?_) (fun c9 => ?_)
  · replace hf := gIf_t hf c9
    refine j_iload_n C dX2_entriesOf_51 rfl ?_
    obtain ⟨rfl, rfl⟩ := gSome hf
    exact j_iret C hr hw dX2_entriesOf_52
  · replace hf := gIf_f hf c9
    refine j_iload_n C dX2_entriesOf_15 rfl ?_
    refine j_aload_n C dX2_entriesOf_16 rfl ?_
    refine j_get (v := (ga (some (ad 5)))) C fl_X2_22_2 dX2_entriesOf_17 (tw_F hinj rfl) ?_
    refine j_iload_n C dX2_entriesOf_20 rfl ?_
    refine j_bipush (v := (nI 22)) C dX2_entriesOf_21 (by decide) ?_
    refine j_iconst (v := (nI 3)) C dX2_entriesOf_23 (by decide) ?_
    refine j_iload C dX2_entriesOf_24 rfl ?_
    refine j_imul C dX2_entriesOf_26 ?_
    refine j_iadd C dX2_entriesOf_27 ?_
    refine j_iconst (v := (nI 1)) C dX2_entriesOf_28 (by decide) ?_
    refine j_iadd C dX2_entriesOf_29 ?_
    replace hf := gB2_e hf
    obtain ⟨x11, w10, ew10, hf⟩ := hf
    refine j_callS (As := [(gi x2), (gi (((nI 22) + ((nI 3) * x5)) + (nI 1)))]) (rest := [(ga (some (ad 5))), (gi x4)]) (v := (some (gi x11))) C (by omega) (kt_X2_of hinj (by omega) ew10) q1798 q1799 q93 q1800 hd_X2_of (by decide) rfl (Nat.le_of_ble_eq_true rfl) dX2_entriesOf_30 ?_
    replace hf := gB1_e hf
    obtain ⟨x12, ex12, hf⟩ := hf
    refine j_iald C (tw_ld hinj ex12) dX2_entriesOf_33 ?_
    refine j_iload_n C dX2_entriesOf_34 rfl ?_
    replace hf := gBd_x hf
    obtain ⟨k13, ek13, hf⟩ := hf
    have jk13 : ∀ (x15 : Int32) (x16 : Int32) (x17 : Int32) (x18 : Int32) (x19 : Int32) (w14 : TS), k13 x15 x16 x17 x18 x19 w14 = some (rr, ww) → gJ D dA A K p l e R s m args below meth c (gEnd D dA A K below args s (twOf wb ad w0) (some (gi rr)) (twOf wb ad ww)) 5 43 [(0, (ga (some (ad 0)))), (1, (gi x15)), (2, (gi x16)), (4, (gi x17))] [(gi x19), (gi x18)] (twOf wb ad w14) := by
      intro x15 x16 x17 x18 x19 w14 hf
      rw [ek13] at hf
      dsimp only at hf
      refine j_iadd C dX2_entriesOf_43 ?_
      replace hf := gBd_x hf
      obtain ⟨x20, ex20, hf⟩ := hf
      refine j_nm ex20 ?_
      refine j_istore_n (lv' := [(3, (gi x20)), (0, (ga (some (ad 0)))), (1, (gi x15)), (2, (gi x16)), (4, (gi x17))]) C dX2_entriesOf_44 (by decide) rfl ?_
      replace hf := gBd_x hf
      obtain ⟨x21, ex21, hf⟩ := hf
      refine j_iinc (v := x21) (lv' := [(4, (gi x21)), (3, (gi x20)), (0, (ga (some (ad 0)))), (1, (gi x15)), (2, (gi x16))]) C dX2_entriesOf_45 rfl (by rw [ex21]; rfl) (by decide) rfl ?_
      refine j_goto (tgt := 5) C dX2_entriesOf_48 (by decide) ?_
      refine j_sub (lv' := [(0, (ga (some (ad 0)))), (1, (gi x15)), (2, (gi x16)), (3, (gi x20)), (4, (gi x21))]) (gL_cons rfl (gL_cons rfl (gL_cons rfl (gL_cons rfl (gL_cons rfl (gL_nil)))))) ?_
      exact jk6 _ _ _ _ _ hf
    clear ek13
    refine j_icmp_ne (tgt := 42) C dX2_entriesOf_35 (by decide) (fun c22 => ?_) (fun c22 => ?_)
    · replace hf := gIf_f hf c22
      refine j_iconst (v := (nI 0)) C dX2_entriesOf_42 (by decide) ?_
      refine j_sub (lv' := [(0, (ga (some (ad 0)))), (1, (gi x2)), (2, (gi x3)), (4, (gi x5))]) (gL_cons rfl (gL_cons rfl (gL_cons rfl (gL_cons rfl (gL_nil))))) ?_
      exact jk13 _ _ _ _ _ _ hf
    · replace hf := gIf_t hf c22
      refine j_iconst (v := (nI 1)) C dX2_entriesOf_38 (by decide) ?_
      refine j_goto (tgt := 43) C dX2_entriesOf_39 (by decide) ?_
      refine j_sub (lv' := [(0, (ga (some (ad 0)))), (1, (gi x2)), (2, (gi x3)), (4, (gi x5))]) (gL_cons rfl (gL_cons rfl (gL_cons rfl (gL_cons rfl (gL_nil))))) ?_
      exact jk13 _ _ _ _ _ _ hf
def dkwX2_instancesOf_2 : List UInt8 := [4, 184, 0, 163, 46, 28, 160, 0, 7, 4, 167, 0, 4, 3, 96, 62, 132, 4, 1, 167, 255, 195, 29, 172]
abbrev dktX2_instancesOf_2 : List UInt8 := dkwX2_instancesOf_2 ++ []
def dkwX2_instancesOf_1 : List UInt8 := [180, 0, 22, 21, 4, 5, 184, 0, 163, 46, 27, 160, 0, 26, 28, 155, 0, 18, 42, 180, 0, 22, 21, 4]
abbrev dktX2_instancesOf_1 : List UInt8 := dkwX2_instancesOf_1 ++ dktX2_instancesOf_2
def dkwX2_instancesOf_0 : List UInt8 := [3, 62, 3, 54, 4, 21, 4, 16, 6, 162, 0, 60, 29, 42, 21, 4, 182, 0, 243, 153, 0, 41, 42]
abbrev dktX2_instancesOf_0 : List UInt8 := dkwX2_instancesOf_0 ++ dktX2_instancesOf_1
theorem dksX2_instancesOf_0 : cX2_instancesOf.data.toList.drop 0 = dktX2_instancesOf_0 := by decide +kernel
theorem dksX2_instancesOf_1 : cX2_instancesOf.data.toList.drop 23 = dktX2_instancesOf_1 := dk_seg dksX2_instancesOf_0 23 rfl rfl
theorem dksX2_instancesOf_2 : cX2_instancesOf.data.toList.drop 47 = dktX2_instancesOf_2 := dk_seg dksX2_instancesOf_1 24 rfl rfl
theorem dX2_instancesOf_0 : decode cX2_instancesOf 0 = .ok (.iconst 0, 1) := dk_3 (dk_at dksX2_instancesOf_0 0 rfl rfl)
theorem dX2_instancesOf_1 : decode cX2_instancesOf 1 = .ok (.istore_n 3, 1) := dk_62 (dk_at dksX2_instancesOf_0 1 rfl rfl)
theorem dX2_instancesOf_2 : decode cX2_instancesOf 2 = .ok (.iconst 0, 1) := dk_3 (dk_at dksX2_instancesOf_0 2 rfl rfl)
theorem dX2_instancesOf_3 : decode cX2_instancesOf 3 = .ok (.istore 4, 2) := dk_54 4 (dk_at dksX2_instancesOf_0 3 rfl rfl)
theorem dX2_instancesOf_5 : decode cX2_instancesOf 5 = .ok (.iload 4, 2) := dk_21 4 (dk_at dksX2_instancesOf_0 5 rfl rfl)
theorem dX2_instancesOf_7 : decode cX2_instancesOf 7 = .ok (.bipush 6, 2) := dk_16 6 (dk_at dksX2_instancesOf_0 7 rfl rfl)
theorem dX2_instancesOf_9 : decode cX2_instancesOf 9 = .ok (.if_icmp .ge 60, 3) := dk_162 0 60 (dk_at dksX2_instancesOf_0 9 rfl rfl)
theorem dX2_instancesOf_12 : decode cX2_instancesOf 12 = .ok (.iload_n 3, 1) := dk_29 (dk_at dksX2_instancesOf_0 12 rfl rfl)
theorem dX2_instancesOf_13 : decode cX2_instancesOf 13 = .ok (.aload_n 0, 1) := dk_42 (dk_at dksX2_instancesOf_0 13 rfl rfl)
theorem dX2_instancesOf_14 : decode cX2_instancesOf 14 = .ok (.iload 4, 2) := dk_21 4 (dk_at dksX2_instancesOf_0 14 rfl rfl)
theorem dX2_instancesOf_16 : decode cX2_instancesOf 16 = .ok (.invokevirtual 243, 3) := dk_182 0 243 (dk_at dksX2_instancesOf_0 16 rfl rfl)
theorem dX2_instancesOf_19 : decode cX2_instancesOf 19 = .ok (.ifCond .eq 41, 3) := dk_153 0 41 (dk_at dksX2_instancesOf_0 19 rfl rfl)
theorem dX2_instancesOf_22 : decode cX2_instancesOf 22 = .ok (.aload_n 0, 1) := dk_42 (dk_at dksX2_instancesOf_0 22 rfl rfl)
theorem dX2_instancesOf_23 : decode cX2_instancesOf 23 = .ok (.getfield 22, 3) := dk_180 0 22 (dk_at dksX2_instancesOf_1 0 rfl rfl)
theorem dX2_instancesOf_26 : decode cX2_instancesOf 26 = .ok (.iload 4, 2) := dk_21 4 (dk_at dksX2_instancesOf_1 3 rfl rfl)
theorem dX2_instancesOf_28 : decode cX2_instancesOf 28 = .ok (.iconst 2, 1) := dk_5 (dk_at dksX2_instancesOf_1 5 rfl rfl)
theorem dX2_instancesOf_29 : decode cX2_instancesOf 29 = .ok (.invokestatic 163, 3) := dk_184 0 163 (dk_at dksX2_instancesOf_1 6 rfl rfl)
theorem dX2_instancesOf_32 : decode cX2_instancesOf 32 = .ok (.iaload, 1) := dk_46 (dk_at dksX2_instancesOf_1 9 rfl rfl)
theorem dX2_instancesOf_33 : decode cX2_instancesOf 33 = .ok (.iload_n 1, 1) := dk_27 (dk_at dksX2_instancesOf_1 10 rfl rfl)
theorem dX2_instancesOf_34 : decode cX2_instancesOf 34 = .ok (.if_icmp .ne 26, 3) := dk_160 0 26 (dk_at dksX2_instancesOf_1 11 rfl rfl)
theorem dX2_instancesOf_37 : decode cX2_instancesOf 37 = .ok (.iload_n 2, 1) := dk_28 (dk_at dksX2_instancesOf_1 14 rfl rfl)
theorem dX2_instancesOf_38 : decode cX2_instancesOf 38 = .ok (.ifCond .lt 18, 3) := dk_155 0 18 (dk_at dksX2_instancesOf_1 15 rfl rfl)
theorem dX2_instancesOf_41 : decode cX2_instancesOf 41 = .ok (.aload_n 0, 1) := dk_42 (dk_at dksX2_instancesOf_1 18 rfl rfl)
theorem dX2_instancesOf_42 : decode cX2_instancesOf 42 = .ok (.getfield 22, 3) := dk_180 0 22 (dk_at dksX2_instancesOf_1 19 rfl rfl)
theorem dX2_instancesOf_45 : decode cX2_instancesOf 45 = .ok (.iload 4, 2) := dk_21 4 (dk_at dksX2_instancesOf_1 22 rfl rfl)
theorem dX2_instancesOf_47 : decode cX2_instancesOf 47 = .ok (.iconst 1, 1) := dk_4 (dk_at dksX2_instancesOf_2 0 rfl rfl)
theorem dX2_instancesOf_48 : decode cX2_instancesOf 48 = .ok (.invokestatic 163, 3) := dk_184 0 163 (dk_at dksX2_instancesOf_2 1 rfl rfl)
theorem dX2_instancesOf_51 : decode cX2_instancesOf 51 = .ok (.iaload, 1) := dk_46 (dk_at dksX2_instancesOf_2 4 rfl rfl)
theorem dX2_instancesOf_52 : decode cX2_instancesOf 52 = .ok (.iload_n 2, 1) := dk_28 (dk_at dksX2_instancesOf_2 5 rfl rfl)
theorem dX2_instancesOf_53 : decode cX2_instancesOf 53 = .ok (.if_icmp .ne 7, 3) := dk_160 0 7 (dk_at dksX2_instancesOf_2 6 rfl rfl)
theorem dX2_instancesOf_56 : decode cX2_instancesOf 56 = .ok (.iconst 1, 1) := dk_4 (dk_at dksX2_instancesOf_2 9 rfl rfl)
theorem dX2_instancesOf_57 : decode cX2_instancesOf 57 = .ok (.goto 4, 3) := dk_167 0 4 (dk_at dksX2_instancesOf_2 10 rfl rfl)
theorem dX2_instancesOf_60 : decode cX2_instancesOf 60 = .ok (.iconst 0, 1) := dk_3 (dk_at dksX2_instancesOf_2 13 rfl rfl)
theorem dX2_instancesOf_61 : decode cX2_instancesOf 61 = .ok (.iadd, 1) := dk_96 (dk_at dksX2_instancesOf_2 14 rfl rfl)
theorem dX2_instancesOf_62 : decode cX2_instancesOf 62 = .ok (.istore_n 3, 1) := dk_62 (dk_at dksX2_instancesOf_2 15 rfl rfl)
theorem dX2_instancesOf_63 : decode cX2_instancesOf 63 = .ok (.iinc 4 1, 3) := dk_132 4 1 (dk_at dksX2_instancesOf_2 16 rfl rfl)
theorem dX2_instancesOf_66 : decode cX2_instancesOf 66 = .ok (.goto (-61), 3) := dk_167 255 195 (dk_at dksX2_instancesOf_2 19 rfl rfl)
theorem dX2_instancesOf_69 : decode cX2_instancesOf 69 = .ok (.iload_n 3, 1) := dk_29 (dk_at dksX2_instancesOf_2 22 rfl rfl)
theorem dX2_instancesOf_70 : decode cX2_instancesOf 70 = .ok (.ireturn, 1) := dk_172 (dk_at dksX2_instancesOf_2 23 rfl rfl)
def t_X2_instancesOf (p1 : Int32) (p2 : Int32) (w0 : TS) : Option (Int32 × TS) := gL4 (fun k6 (x2 : Int32) (x3 : Int32) (x4 : Int32) (x5 : Int32) (w1 : TS) => if (nI 6) ≤ x5 then some (x4, w1) else gB2 (t_X2_isInstance x5 w1) fun x9 w8 => gBd (fun (x12 : Int32) (x13 : Int32) (x14 : Int32) (x15 : Int32) (x16 : Int32) (w11 : TS) => gBd (x15 + x16) fun x17 => gBd (x14 + (nI 1)) fun x18 => k6 x12 x13 x17 x18 w11) fun k10 => gBd (fun (x21 : Int32) (x22 : Int32) (x23 : Int32) (x24 : Int32) (w20 : TS) => k10 x21 x22 x23 x24 (nI 0) w20) fun k19 => if x9 = 0 then k19 x2 x3 x5 x4 w8 else gB2 (t_X2_of x5 (nI 2) w8) fun x27 w26 => gB1 (tLd w26 5 x27) fun x28 => if x28 = x2 then gBd (fun (x32 : Int32) (x33 : Int32) (x34 : Int32) (x35 : Int32) (w31 : TS) => k10 x32 x33 x34 x35 (nI 1) w31) fun k30 => if x3 < 0 then k30 x2 x3 x5 x4 w26 else gB2 (t_X2_of x5 (nI 1) w26) fun x38 w37 => gB1 (tLd w37 5 x38) fun x39 => if x39 = x3 then k30 x2 x3 x5 x4 w37 else k19 x2 x3 x5 x4 w37 else k19 x2 x3 x5 x4 w26) 20000 p1 p2 (nI 0) (nI 0) w0
set_option maxHeartbeats 4000000 in
set_option maxRecDepth 100000 in
theorem kt_X2_instancesOf {D : va_G} {dA : Nat → ClassId} {A : Nat → Prop} {K : Nat → Nat} {l : Launch} {wb : gw} {ad : Nat → Nat} (hinj : tInj ad) {h : Nat} (hh : 2 ≤ h) {p1 : Int32} {p2 : Int32} {w0 ww : TS} {rr : Int32} (hf : t_X2_instancesOf p1 p2 w0 = some (rr, ww)) : gMet D dA A K l yX2_instancesOf (ws_ yX2_instancesOf cX2_instancesOf 5 (some .int)) h [(ga (some (ad 0))), (gi p1), (gi p2)] (some (gi rr)) (twOf wb ad w0) (twOf wb ad ww) := by
  refine j_start (own := RX2) (by decide +kernel) rfl (Nat.le_of_ble_eq_true rfl) ?_
  intro p e R s m args below meth c C hr hin hw
  unfold t_X2_instancesOf at hf
  show gJ D dA A K p l e R s m args below meth c (gEnd D dA A K below args s (twOf wb ad w0) (some (gi rr)) (twOf wb ad ww)) 5 0 [(0, (ga (some (ad 0)))), (1, (gi p1)), (2, (gi p2))] [] (twOf wb ad w0)
  refine j_iconst (v := (nI 0)) C dX2_instancesOf_0 (by decide) ?_
  refine j_istore_n (lv' := [(3, (gi (nI 0))), (0, (ga (some (ad 0)))), (1, (gi p1)), (2, (gi p2))]) C dX2_instancesOf_1 (by decide) rfl ?_
  refine j_iconst (v := (nI 0)) C dX2_instancesOf_2 (by decide) ?_
  refine j_istore (lv' := [(4, (gi (nI 0))), (3, (gi (nI 0))), (0, (ga (some (ad 0)))), (1, (gi p1)), (2, (gi p2))]) C dX2_instancesOf_3 (by decide) rfl ?_
  refine j_sub (lv' := [(0, (ga (some (ad 0)))), (1, (gi p1)), (2, (gi p2)), (3, (gi (nI 0))), (4, (gi (nI 0)))]) (gL_cons rfl (gL_cons rfl (gL_cons rfl (gL_cons rfl (gL_cons rfl (gL_nil)))))) ?_
  refine gL4_e (fun (x2 : Int32) (x3 : Int32) (x4 : Int32) (x5 : Int32) (w1 : TS) => gJ D dA A K p l e R s m args below meth c (gEnd D dA A K below args s (twOf wb ad w0) (some (gi rr)) (twOf wb ad ww)) 5 5 [(0, (ga (some (ad 0)))), (1, (gi x2)), (2, (gi x3)), (3, (gi x4)), (4, (gi x5))] [] (twOf wb ad w1)) ?_ _ _ _ _ _ _ hf
  intro k6 jk6 x2 x3 x4 x5 w1 hf
  refine j_iload C dX2_instancesOf_5 rfl ?_
  refine j_bipush (v := (nI 6)) C dX2_instancesOf_7 (by decide) ?_
  refine j_icmp_ge (tgt := 69) C dX2_instancesOf_9 (by decide) (fun c7 => ?_) (fun c7 => ?_)
  · replace hf := gIf_t hf c7
    refine j_iload_n C dX2_instancesOf_69 rfl ?_
    obtain ⟨rfl, rfl⟩ := gSome hf
    exact j_iret C hr hw dX2_instancesOf_70
  · replace hf := gIf_f hf c7
    refine j_iload_n C dX2_instancesOf_12 rfl ?_
    refine j_aload_n C dX2_instancesOf_13 rfl ?_
    refine j_iload C dX2_instancesOf_14 rfl ?_
    replace hf := gB2_e hf
    obtain ⟨x9, w8, ew8, hf⟩ := hf
    refine j_callV (As := [(gi x5)]) (rest := [(gi x4)]) (v := (some (gi x9))) C (by omega) (kt_X2_isInstance hinj (by omega) ew8) (tw_cls hinj) rfl q1900 q1902 qs81 q93 q1903 ⟨rfl, hd_X2_isInstance⟩ (by decide) rfl (Nat.le_of_ble_eq_true rfl) dX2_instancesOf_16 ?_
    replace hf := gBd_x hf
    obtain ⟨k10, ek10, hf⟩ := hf
    have jk10 : ∀ (x12 : Int32) (x13 : Int32) (x14 : Int32) (x15 : Int32) (x16 : Int32) (w11 : TS), k10 x12 x13 x14 x15 x16 w11 = some (rr, ww) → gJ D dA A K p l e R s m args below meth c (gEnd D dA A K below args s (twOf wb ad w0) (some (gi rr)) (twOf wb ad ww)) 5 61 [(0, (ga (some (ad 0)))), (1, (gi x12)), (2, (gi x13)), (4, (gi x14))] [(gi x16), (gi x15)] (twOf wb ad w11) := by
      intro x12 x13 x14 x15 x16 w11 hf
      rw [ek10] at hf
      dsimp only at hf
      refine j_iadd C dX2_instancesOf_61 ?_
      replace hf := gBd_x hf
      obtain ⟨x17, ex17, hf⟩ := hf
      refine j_nm ex17 ?_
      refine j_istore_n (lv' := [(3, (gi x17)), (0, (ga (some (ad 0)))), (1, (gi x12)), (2, (gi x13)), (4, (gi x14))]) C dX2_instancesOf_62 (by decide) rfl ?_
      replace hf := gBd_x hf
      obtain ⟨x18, ex18, hf⟩ := hf
      refine j_iinc (v := x18) (lv' := [(4, (gi x18)), (3, (gi x17)), (0, (ga (some (ad 0)))), (1, (gi x12)), (2, (gi x13))]) C dX2_instancesOf_63 rfl (by rw [ex18]; rfl) (by decide) rfl ?_
      refine j_goto (tgt := 5) C dX2_instancesOf_66 (by decide) ?_
      refine j_sub (lv' := [(0, (ga (some (ad 0)))), (1, (gi x12)), (2, (gi x13)), (3, (gi x17)), (4, (gi x18))]) (gL_cons rfl (gL_cons rfl (gL_cons rfl (gL_cons rfl (gL_cons rfl (gL_nil)))))) ?_
      exact jk6 _ _ _ _ _ hf
    clear ek10
    replace hf := gBd_x hf
    obtain ⟨k19, ek19, hf⟩ := hf
    have jk19 : ∀ (x21 : Int32) (x22 : Int32) (x23 : Int32) (x24 : Int32) (w20 : TS), k19 x21 x22 x23 x24 w20 = some (rr, ww) → gJ D dA A K p l e R s m args below meth c (gEnd D dA A K below args s (twOf wb ad w0) (some (gi rr)) (twOf wb ad ww)) 5 60 [(0, (ga (some (ad 0)))), (1, (gi x21)), (2, (gi x22)), (4, (gi x23))] [(gi x24)] (twOf wb ad w20) := by
      intro x21 x22 x23 x24 w20 hf
      rw [ek19] at hf
      dsimp only at hf
      refine j_iconst (v := (nI 0)) C dX2_instancesOf_60 (by decide) ?_
      exact jk10 _ _ _ _ _ _ hf
    clear ek19
    refine j_if_eq (tgt := 60) C dX2_instancesOf_19 (by decide) (fun c25 => ?_) (fun c25 => ?_)
    · replace hf := gIf_t hf c25
      refine j_sub (lv' := [(0, (ga (some (ad 0)))), (1, (gi x2)), (2, (gi x3)), (4, (gi x5))]) (gL_cons rfl (gL_cons rfl (gL_cons rfl (gL_cons rfl (gL_nil))))) ?_
      exact jk19 _ _ _ _ _ hf
    · replace hf := gIf_f hf c25
      refine j_aload_n C dX2_instancesOf_22 rfl ?_
      refine j_get (v := (ga (some (ad 5)))) C fl_X2_22_2 dX2_instancesOf_23 (tw_F hinj rfl) ?_
      refine j_iload C dX2_instancesOf_26 rfl ?_
      refine j_iconst (v := (nI 2)) C dX2_instancesOf_28 (by decide) ?_
      replace hf := gB2_e hf
      obtain ⟨x27, w26, ew26, hf⟩ := hf
      refine j_callS (As := [(gi x5), (gi (nI 2))]) (rest := [(ga (some (ad 5))), (gi x4)]) (v := (some (gi x27))) C (by omega) (kt_X2_of hinj (by omega) ew26) q1798 q1799 q93 q1800 hd_X2_of (by decide) rfl (Nat.le_of_ble_eq_true rfl) dX2_instancesOf_29 ?_
      replace hf := gB1_e hf
      obtain ⟨x28, ex28, hf⟩ := hf
      refine j_iald C (tw_ld hinj ex28) dX2_instancesOf_32 ?_
      refine j_iload_n C dX2_instancesOf_33 rfl ?_
      refine j_icmp_ne (tgt := 60) C dX2_instancesOf_34 (by decide) (fun c29 => ?_) (fun c29 => ?_)
      · replace hf := gIf_f hf c29
        refine j_sub (lv' := [(0, (ga (some (ad 0)))), (1, (gi x2)), (2, (gi x3)), (4, (gi x5))]) (gL_cons rfl (gL_cons rfl (gL_cons rfl (gL_cons rfl (gL_nil))))) ?_
        exact jk19 _ _ _ _ _ hf
      · replace hf := gIf_t hf c29
        refine j_iload_n C dX2_instancesOf_37 rfl ?_
        replace hf := gBd_x hf
        obtain ⟨k30, ek30, hf⟩ := hf
        have jk30 : ∀ (x32 : Int32) (x33 : Int32) (x34 : Int32) (x35 : Int32) (w31 : TS), k30 x32 x33 x34 x35 w31 = some (rr, ww) → gJ D dA A K p l e R s m args below meth c (gEnd D dA A K below args s (twOf wb ad w0) (some (gi rr)) (twOf wb ad ww)) 5 56 [(0, (ga (some (ad 0)))), (1, (gi x32)), (2, (gi x33)), (4, (gi x34))] [(gi x35)] (twOf wb ad w31) := by
          intro x32 x33 x34 x35 w31 hf
          rw [ek30] at hf
          dsimp only at hf
          refine j_iconst (v := (nI 1)) C dX2_instancesOf_56 (by decide) ?_
          refine j_goto (tgt := 61) C dX2_instancesOf_57 (by decide) ?_
          exact jk10 _ _ _ _ _ _ hf
        clear ek30
        refine j_if_lt (tgt := 56) C dX2_instancesOf_38 (by decide) (fun c36 => ?_) (fun c36 => ?_)
        · replace hf := gIf_t hf c36
          refine j_sub (lv' := [(0, (ga (some (ad 0)))), (1, (gi x2)), (2, (gi x3)), (4, (gi x5))]) (gL_cons rfl (gL_cons rfl (gL_cons rfl (gL_cons rfl (gL_nil))))) ?_
          exact jk30 _ _ _ _ _ hf
        · replace hf := gIf_f hf c36
          refine j_aload_n C dX2_instancesOf_41 rfl ?_
          refine j_get (v := (ga (some (ad 5)))) C fl_X2_22_2 dX2_instancesOf_42 (tw_F hinj rfl) ?_
          refine j_iload C dX2_instancesOf_45 rfl ?_
          refine j_iconst (v := (nI 1)) C dX2_instancesOf_47 (by decide) ?_
          replace hf := gB2_e hf
          obtain ⟨x38, w37, ew37, hf⟩ := hf
          refine j_callS (As := [(gi x5), (gi (nI 1))]) (rest := [(ga (some (ad 5))), (gi x4)]) (v := (some (gi x38))) C (by omega) (kt_X2_of hinj (by omega) ew37) q1798 q1799 q93 q1800 hd_X2_of (by decide) rfl (Nat.le_of_ble_eq_true rfl) dX2_instancesOf_48 ?_
          replace hf := gB1_e hf
          obtain ⟨x39, ex39, hf⟩ := hf
          refine j_iald C (tw_ld hinj ex39) dX2_instancesOf_51 ?_
          refine j_iload_n C dX2_instancesOf_52 rfl ?_
          refine j_icmp_ne (tgt := 60) C dX2_instancesOf_53 (by decide) (fun c40 => ?_) (fun c40 => ?_)
          · replace hf := gIf_f hf c40
            refine j_sub (lv' := [(0, (ga (some (ad 0)))), (1, (gi x2)), (2, (gi x3)), (4, (gi x5))]) (gL_cons rfl (gL_cons rfl (gL_cons rfl (gL_cons rfl (gL_nil))))) ?_
            exact jk19 _ _ _ _ _ hf
          · replace hf := gIf_t hf c40
            refine j_sub (lv' := [(0, (ga (some (ad 0)))), (1, (gi x2)), (2, (gi x3)), (4, (gi x5))]) (gL_cons rfl (gL_cons rfl (gL_cons rfl (gL_cons rfl (gL_nil))))) ?_
            exact jk30 _ _ _ _ _ hf
def dkwX2_withStatus_1 : List UInt8 := [28, 172]
abbrev dktX2_withStatus_1 : List UInt8 := dkwX2_withStatus_1 ++ []
def dkwX2_withStatus_0 : List UInt8 := [3, 61, 3, 62, 29, 7, 162, 0, 18, 28, 42, 29, 27, 182, 1, 13, 96, 61, 132, 3, 1, 167, 255, 239]
abbrev dktX2_withStatus_0 : List UInt8 := dkwX2_withStatus_0 ++ dktX2_withStatus_1
theorem dksX2_withStatus_0 : cX2_withStatus.data.toList.drop 0 = dktX2_withStatus_0 := by decide +kernel
theorem dksX2_withStatus_1 : cX2_withStatus.data.toList.drop 24 = dktX2_withStatus_1 := dk_seg dksX2_withStatus_0 24 rfl rfl
theorem dX2_withStatus_0 : decode cX2_withStatus 0 = .ok (.iconst 0, 1) := dk_3 (dk_at dksX2_withStatus_0 0 rfl rfl)
theorem dX2_withStatus_1 : decode cX2_withStatus 1 = .ok (.istore_n 2, 1) := dk_61 (dk_at dksX2_withStatus_0 1 rfl rfl)
theorem dX2_withStatus_2 : decode cX2_withStatus 2 = .ok (.iconst 0, 1) := dk_3 (dk_at dksX2_withStatus_0 2 rfl rfl)
theorem dX2_withStatus_3 : decode cX2_withStatus 3 = .ok (.istore_n 3, 1) := dk_62 (dk_at dksX2_withStatus_0 3 rfl rfl)
theorem dX2_withStatus_4 : decode cX2_withStatus 4 = .ok (.iload_n 3, 1) := dk_29 (dk_at dksX2_withStatus_0 4 rfl rfl)
theorem dX2_withStatus_5 : decode cX2_withStatus 5 = .ok (.iconst 4, 1) := dk_7 (dk_at dksX2_withStatus_0 5 rfl rfl)
theorem dX2_withStatus_6 : decode cX2_withStatus 6 = .ok (.if_icmp .ge 18, 3) := dk_162 0 18 (dk_at dksX2_withStatus_0 6 rfl rfl)
theorem dX2_withStatus_9 : decode cX2_withStatus 9 = .ok (.iload_n 2, 1) := dk_28 (dk_at dksX2_withStatus_0 9 rfl rfl)
theorem dX2_withStatus_10 : decode cX2_withStatus 10 = .ok (.aload_n 0, 1) := dk_42 (dk_at dksX2_withStatus_0 10 rfl rfl)
theorem dX2_withStatus_11 : decode cX2_withStatus 11 = .ok (.iload_n 3, 1) := dk_29 (dk_at dksX2_withStatus_0 11 rfl rfl)
theorem dX2_withStatus_12 : decode cX2_withStatus 12 = .ok (.iload_n 1, 1) := dk_27 (dk_at dksX2_withStatus_0 12 rfl rfl)
theorem dX2_withStatus_13 : decode cX2_withStatus 13 = .ok (.invokevirtual 269, 3) := dk_182 1 13 (dk_at dksX2_withStatus_0 13 rfl rfl)
theorem dX2_withStatus_16 : decode cX2_withStatus 16 = .ok (.iadd, 1) := dk_96 (dk_at dksX2_withStatus_0 16 rfl rfl)
theorem dX2_withStatus_17 : decode cX2_withStatus 17 = .ok (.istore_n 2, 1) := dk_61 (dk_at dksX2_withStatus_0 17 rfl rfl)
theorem dX2_withStatus_18 : decode cX2_withStatus 18 = .ok (.iinc 3 1, 3) := dk_132 3 1 (dk_at dksX2_withStatus_0 18 rfl rfl)
theorem dX2_withStatus_21 : decode cX2_withStatus 21 = .ok (.goto (-17), 3) := dk_167 255 239 (dk_at dksX2_withStatus_0 21 rfl rfl)
theorem dX2_withStatus_24 : decode cX2_withStatus 24 = .ok (.iload_n 2, 1) := dk_28 (dk_at dksX2_withStatus_1 0 rfl rfl)
theorem dX2_withStatus_25 : decode cX2_withStatus 25 = .ok (.ireturn, 1) := dk_172 (dk_at dksX2_withStatus_1 1 rfl rfl)
theorem hd_X2_instancesOf : (yX2_instancesOf.cls ≠ "java/lang/invoke/MethodHandle" ∧ yX2_instancesOf.cls ≠ "java/lang/invoke/VarHandle" ∧ (parseMethodDescriptor yX2_instancesOf.desc).map (fun d => d.parameters.length) = some 2) := ⟨by decide +kernel, by decide +kernel, by decide +kernel⟩
def t_X2_withStatus (p1 : Int32) (w0 : TS) : Option (Int32 × TS) := gL3 (fun k5 (x2 : Int32) (x3 : Int32) (x4 : Int32) (w1 : TS) => if (nI 4) ≤ x4 then some (x3, w1) else gB2 (t_X2_instancesOf x4 x2 w1) fun x8 w7 => gBd (x3 + x8) fun x9 => gBd (x4 + (nI 1)) fun x10 => k5 x2 x9 x10 w7) 20000 p1 (nI 0) (nI 0) w0
set_option maxHeartbeats 4000000 in
set_option maxRecDepth 100000 in
theorem kt_X2_withStatus {D : va_G} {dA : Nat → ClassId} {A : Nat → Prop} {K : Nat → Nat} {l : Launch} {wb : gw} {ad : Nat → Nat} (hinj : tInj ad) {h : Nat} (hh : 3 ≤ h) {p1 : Int32} {w0 ww : TS} {rr : Int32} (hf : t_X2_withStatus p1 w0 = some (rr, ww)) : gMet D dA A K l yX2_withStatus (ws_ yX2_withStatus cX2_withStatus 4 (some .int)) h [(ga (some (ad 0))), (gi p1)] (some (gi rr)) (twOf wb ad w0) (twOf wb ad ww) := by
  refine j_start (own := RX2) (by decide +kernel) rfl (Nat.le_of_ble_eq_true rfl) ?_
  intro p e R s m args below meth c C hr hin hw
  unfold t_X2_withStatus at hf
  show gJ D dA A K p l e R s m args below meth c (gEnd D dA A K below args s (twOf wb ad w0) (some (gi rr)) (twOf wb ad ww)) 4 0 [(0, (ga (some (ad 0)))), (1, (gi p1))] [] (twOf wb ad w0)
  refine j_iconst (v := (nI 0)) C dX2_withStatus_0 (by decide) ?_
  refine j_istore_n (lv' := [(2, (gi (nI 0))), (0, (ga (some (ad 0)))), (1, (gi p1))]) C dX2_withStatus_1 (by decide) rfl ?_
  refine j_iconst (v := (nI 0)) C dX2_withStatus_2 (by decide) ?_
  refine j_istore_n (lv' := [(3, (gi (nI 0))), (2, (gi (nI 0))), (0, (ga (some (ad 0)))), (1, (gi p1))]) C dX2_withStatus_3 (by decide) rfl ?_
  refine j_sub (lv' := [(0, (ga (some (ad 0)))), (1, (gi p1)), (2, (gi (nI 0))), (3, (gi (nI 0)))]) (gL_cons rfl (gL_cons rfl (gL_cons rfl (gL_cons rfl (gL_nil))))) ?_
  refine gL3_e (fun (x2 : Int32) (x3 : Int32) (x4 : Int32) (w1 : TS) => gJ D dA A K p l e R s m args below meth c (gEnd D dA A K below args s (twOf wb ad w0) (some (gi rr)) (twOf wb ad ww)) 4 4 [(0, (ga (some (ad 0)))), (1, (gi x2)), (2, (gi x3)), (3, (gi x4))] [] (twOf wb ad w1)) ?_ _ _ _ _ _ hf
  intro k5 jk5 x2 x3 x4 w1 hf
  refine j_iload_n C dX2_withStatus_4 rfl ?_
  refine j_iconst (v := (nI 4)) C dX2_withStatus_5 (by decide) ?_
  refine j_icmp_ge (tgt := 24) C dX2_withStatus_6 (by decide) (fun c6 => ?_) (fun c6 => ?_)
  · replace hf := gIf_t hf c6
    refine j_iload_n C dX2_withStatus_24 rfl ?_
    obtain ⟨rfl, rfl⟩ := gSome hf
    exact j_iret C hr hw dX2_withStatus_25
  · replace hf := gIf_f hf c6
    refine j_iload_n C dX2_withStatus_9 rfl ?_
    refine j_aload_n C dX2_withStatus_10 rfl ?_
    refine j_iload_n C dX2_withStatus_11 rfl ?_
    refine j_iload_n C dX2_withStatus_12 rfl ?_
    replace hf := gB2_e hf
    obtain ⟨x8, w7, ew7, hf⟩ := hf
    refine j_callV (As := [(gi x4), (gi x2)]) (rest := [(gi x3)]) (v := (some (gi x8))) C (by omega) (kt_X2_instancesOf hinj (by omega) ew7) (tw_cls hinj) rfl q1969 q1971 qs87 q93 q1972 ⟨rfl, hd_X2_instancesOf⟩ (by decide) rfl (Nat.le_of_ble_eq_true rfl) dX2_withStatus_13 ?_
    refine j_iadd C dX2_withStatus_16 ?_
    replace hf := gBd_x hf
    obtain ⟨x9, ex9, hf⟩ := hf
    refine j_nm ex9 ?_
    refine j_istore_n (lv' := [(2, (gi x9)), (0, (ga (some (ad 0)))), (1, (gi x2)), (3, (gi x4))]) C dX2_withStatus_17 (by decide) rfl ?_
    replace hf := gBd_x hf
    obtain ⟨x10, ex10, hf⟩ := hf
    refine j_iinc (v := x10) (lv' := [(3, (gi x10)), (2, (gi x9)), (0, (ga (some (ad 0)))), (1, (gi x2))]) C dX2_withStatus_18 rfl (by rw [ex10]; rfl) (by decide) rfl ?_
    refine j_goto (tgt := 4) C dX2_withStatus_21 (by decide) ?_
    refine j_sub (lv' := [(0, (ga (some (ad 0)))), (1, (gi x2)), (2, (gi x9)), (3, (gi x10))]) (gL_cons rfl (gL_cons rfl (gL_cons rfl (gL_cons rfl (gL_nil))))) ?_
    exact jk5 _ _ _ _ hf
def dkwX2_versions_1 : List UInt8 := [167, 255, 236, 27, 172]
abbrev dktX2_versions_1 : List UInt8 := dkwX2_versions_1 ++ []
def dkwX2_versions_0 : List UInt8 := [3, 60, 3, 61, 28, 7, 162, 0, 21, 27, 42, 180, 0, 22, 16, 17, 28, 96, 46, 96, 60, 132, 2, 1]
abbrev dktX2_versions_0 : List UInt8 := dkwX2_versions_0 ++ dktX2_versions_1
theorem dksX2_versions_0 : cX2_versions.data.toList.drop 0 = dktX2_versions_0 := by decide +kernel
theorem dksX2_versions_1 : cX2_versions.data.toList.drop 24 = dktX2_versions_1 := dk_seg dksX2_versions_0 24 rfl rfl
theorem dX2_versions_0 : decode cX2_versions 0 = .ok (.iconst 0, 1) := dk_3 (dk_at dksX2_versions_0 0 rfl rfl)
theorem dX2_versions_1 : decode cX2_versions 1 = .ok (.istore_n 1, 1) := dk_60 (dk_at dksX2_versions_0 1 rfl rfl)
theorem dX2_versions_2 : decode cX2_versions 2 = .ok (.iconst 0, 1) := dk_3 (dk_at dksX2_versions_0 2 rfl rfl)
theorem dX2_versions_3 : decode cX2_versions 3 = .ok (.istore_n 2, 1) := dk_61 (dk_at dksX2_versions_0 3 rfl rfl)
theorem dX2_versions_4 : decode cX2_versions 4 = .ok (.iload_n 2, 1) := dk_28 (dk_at dksX2_versions_0 4 rfl rfl)
theorem dX2_versions_5 : decode cX2_versions 5 = .ok (.iconst 4, 1) := dk_7 (dk_at dksX2_versions_0 5 rfl rfl)
theorem dX2_versions_6 : decode cX2_versions 6 = .ok (.if_icmp .ge 21, 3) := dk_162 0 21 (dk_at dksX2_versions_0 6 rfl rfl)
theorem dX2_versions_9 : decode cX2_versions 9 = .ok (.iload_n 1, 1) := dk_27 (dk_at dksX2_versions_0 9 rfl rfl)
theorem dX2_versions_10 : decode cX2_versions 10 = .ok (.aload_n 0, 1) := dk_42 (dk_at dksX2_versions_0 10 rfl rfl)
theorem dX2_versions_11 : decode cX2_versions 11 = .ok (.getfield 22, 3) := dk_180 0 22 (dk_at dksX2_versions_0 11 rfl rfl)
theorem dX2_versions_14 : decode cX2_versions 14 = .ok (.bipush 17, 2) := dk_16 17 (dk_at dksX2_versions_0 14 rfl rfl)
theorem dX2_versions_16 : decode cX2_versions 16 = .ok (.iload_n 2, 1) := dk_28 (dk_at dksX2_versions_0 16 rfl rfl)
theorem dX2_versions_17 : decode cX2_versions 17 = .ok (.iadd, 1) := dk_96 (dk_at dksX2_versions_0 17 rfl rfl)
theorem dX2_versions_18 : decode cX2_versions 18 = .ok (.iaload, 1) := dk_46 (dk_at dksX2_versions_0 18 rfl rfl)
theorem dX2_versions_19 : decode cX2_versions 19 = .ok (.iadd, 1) := dk_96 (dk_at dksX2_versions_0 19 rfl rfl)
theorem dX2_versions_20 : decode cX2_versions 20 = .ok (.istore_n 1, 1) := dk_60 (dk_at dksX2_versions_0 20 rfl rfl)
theorem dX2_versions_21 : decode cX2_versions 21 = .ok (.iinc 2 1, 3) := dk_132 2 1 (dk_at dksX2_versions_0 21 rfl rfl)
theorem dX2_versions_24 : decode cX2_versions 24 = .ok (.goto (-20), 3) := dk_167 255 236 (dk_at dksX2_versions_1 0 rfl rfl)
theorem dX2_versions_27 : decode cX2_versions 27 = .ok (.iload_n 1, 1) := dk_27 (dk_at dksX2_versions_1 3 rfl rfl)
theorem dX2_versions_28 : decode cX2_versions 28 = .ok (.ireturn, 1) := dk_172 (dk_at dksX2_versions_1 4 rfl rfl)
def t_X2_versions  (w0 : TS) : Option (Int32 × TS) := gL2 (fun k4 (x2 : Int32) (x3 : Int32) (w1 : TS) => if (nI 4) ≤ x3 then some (x2, w1) else gB1 (tLd w1 5 ((nI 17) + x3)) fun x6 => gBd (x2 + x6) fun x7 => gBd (x3 + (nI 1)) fun x8 => k4 x7 x8 w1) 20000 (nI 0) (nI 0) w0
set_option maxHeartbeats 4000000 in
set_option maxRecDepth 100000 in
theorem kt_X2_versions {D : va_G} {dA : Nat → ClassId} {A : Nat → Prop} {K : Nat → Nat} {l : Launch} {wb : gw} {ad : Nat → Nat} (hinj : tInj ad) {h : Nat} (hh : 0 ≤ h)  {w0 ww : TS} {rr : Int32} (hf : t_X2_versions  w0 = some (rr, ww)) : gMet D dA A K l yX2_versions (ws_ yX2_versions cX2_versions 3 (some .int)) h [(ga (some (ad 0)))] (some (gi rr)) (twOf wb ad w0) (twOf wb ad ww) := by
  refine j_start (own := RX2) (by decide +kernel) rfl (Nat.le_of_ble_eq_true rfl) ?_
  intro p e R s m args below meth c C hr hin hw
  unfold t_X2_versions at hf
  show gJ D dA A K p l e R s m args below meth c (gEnd D dA A K below args s (twOf wb ad w0) (some (gi rr)) (twOf wb ad ww)) 3 0 [(0, (ga (some (ad 0))))] [] (twOf wb ad w0)
  refine j_iconst (v := (nI 0)) C dX2_versions_0 (by decide) ?_
  refine j_istore_n (lv' := [(1, (gi (nI 0))), (0, (ga (some (ad 0))))]) C dX2_versions_1 (by decide) rfl ?_
  refine j_iconst (v := (nI 0)) C dX2_versions_2 (by decide) ?_
  refine j_istore_n (lv' := [(2, (gi (nI 0))), (1, (gi (nI 0))), (0, (ga (some (ad 0))))]) C dX2_versions_3 (by decide) rfl ?_
  refine j_sub (lv' := [(0, (ga (some (ad 0)))), (1, (gi (nI 0))), (2, (gi (nI 0)))]) (gL_cons rfl (gL_cons rfl (gL_cons rfl (gL_nil)))) ?_
  refine gL2_e (fun (x2 : Int32) (x3 : Int32) (w1 : TS) => gJ D dA A K p l e R s m args below meth c (gEnd D dA A K below args s (twOf wb ad w0) (some (gi rr)) (twOf wb ad ww)) 3 4 [(0, (ga (some (ad 0)))), (1, (gi x2)), (2, (gi x3))] [] (twOf wb ad w1)) ?_ _ _ _ _ hf
  intro k4 jk4 x2 x3 w1 hf
  refine j_iload_n C dX2_versions_4 rfl ?_
  refine j_iconst (v := (nI 4)) C dX2_versions_5 (by decide) ?_
  refine j_icmp_ge (tgt := 27) C dX2_versions_6 (by decide) (fun c5 => ?_) (fun c5 => ?_)
  · replace hf := gIf_t hf c5
    refine j_iload_n C dX2_versions_27 rfl ?_
    obtain ⟨rfl, rfl⟩ := gSome hf
    exact j_iret C hr hw dX2_versions_28
  · replace hf := gIf_f hf c5
    refine j_iload_n C dX2_versions_9 rfl ?_
    refine j_aload_n C dX2_versions_10 rfl ?_
    refine j_get (v := (ga (some (ad 5)))) C fl_X2_22_2 dX2_versions_11 (tw_F hinj rfl) ?_
    refine j_bipush (v := (nI 17)) C dX2_versions_14 (by decide) ?_
    refine j_iload_n C dX2_versions_16 rfl ?_
    refine j_iadd C dX2_versions_17 ?_
    replace hf := gB1_e hf
    obtain ⟨x6, ex6, hf⟩ := hf
    refine j_iald C (tw_ld hinj ex6) dX2_versions_18 ?_
    refine j_iadd C dX2_versions_19 ?_
    replace hf := gBd_x hf
    obtain ⟨x7, ex7, hf⟩ := hf
    refine j_nm ex7 ?_
    refine j_istore_n (lv' := [(1, (gi x7)), (0, (ga (some (ad 0)))), (2, (gi x3))]) C dX2_versions_20 (by decide) rfl ?_
    replace hf := gBd_x hf
    obtain ⟨x8, ex8, hf⟩ := hf
    refine j_iinc (v := x8) (lv' := [(2, (gi x8)), (1, (gi x7)), (0, (ga (some (ad 0))))]) C dX2_versions_21 rfl (by rw [ex8]; rfl) (by decide) rfl ?_
    refine j_goto (tgt := 4) C dX2_versions_24 (by decide) ?_
    refine j_sub (lv' := [(0, (ga (some (ad 0)))), (1, (gi x7)), (2, (gi x8))]) (gL_cons rfl (gL_cons rfl (gL_cons rfl (gL_nil)))) ?_
    exact jk4 _ _ _ hf
def dkwX2_feed_2 : List UInt8 := [180, 0, 42, 172]
abbrev dktX2_feed_2 : List UInt8 := dkwX2_feed_2 ++ []
def dkwX2_feed_1 : List UInt8 := [172, 42, 180, 0, 31, 42, 180, 0, 42, 27, 79, 42, 89, 180, 0, 42, 4, 96, 181, 0, 42, 42]
abbrev dktX2_feed_1 : List UInt8 := dkwX2_feed_1 ++ dktX2_feed_2
def dkwX2_feed_0 : List UInt8 := [27, 3, 16, 127, 184, 0, 38, 154, 0, 6, 16, 254, 172, 42, 180, 0, 42, 16, 80, 160, 0, 6, 16, 252]
abbrev dktX2_feed_0 : List UInt8 := dkwX2_feed_0 ++ dktX2_feed_1
theorem dksX2_feed_0 : cX2_feed.data.toList.drop 0 = dktX2_feed_0 := by decide +kernel
theorem dksX2_feed_1 : cX2_feed.data.toList.drop 24 = dktX2_feed_1 := dk_seg dksX2_feed_0 24 rfl rfl
theorem dksX2_feed_2 : cX2_feed.data.toList.drop 46 = dktX2_feed_2 := dk_seg dksX2_feed_1 22 rfl rfl
theorem dX2_feed_0 : decode cX2_feed 0 = .ok (.iload_n 1, 1) := dk_27 (dk_at dksX2_feed_0 0 rfl rfl)
theorem dX2_feed_1 : decode cX2_feed 1 = .ok (.iconst 0, 1) := dk_3 (dk_at dksX2_feed_0 1 rfl rfl)
theorem dX2_feed_2 : decode cX2_feed 2 = .ok (.bipush 127, 2) := dk_16 127 (dk_at dksX2_feed_0 2 rfl rfl)
theorem dX2_feed_4 : decode cX2_feed 4 = .ok (.invokestatic 38, 3) := dk_184 0 38 (dk_at dksX2_feed_0 4 rfl rfl)
theorem dX2_feed_7 : decode cX2_feed 7 = .ok (.ifCond .ne 6, 3) := dk_154 0 6 (dk_at dksX2_feed_0 7 rfl rfl)
theorem dX2_feed_10 : decode cX2_feed 10 = .ok (.bipush (-2), 2) := dk_16 254 (dk_at dksX2_feed_0 10 rfl rfl)
theorem dX2_feed_12 : decode cX2_feed 12 = .ok (.ireturn, 1) := dk_172 (dk_at dksX2_feed_0 12 rfl rfl)
theorem dX2_feed_13 : decode cX2_feed 13 = .ok (.aload_n 0, 1) := dk_42 (dk_at dksX2_feed_0 13 rfl rfl)
theorem dX2_feed_14 : decode cX2_feed 14 = .ok (.getfield 42, 3) := dk_180 0 42 (dk_at dksX2_feed_0 14 rfl rfl)
theorem dX2_feed_17 : decode cX2_feed 17 = .ok (.bipush 80, 2) := dk_16 80 (dk_at dksX2_feed_0 17 rfl rfl)
theorem dX2_feed_19 : decode cX2_feed 19 = .ok (.if_icmp .ne 6, 3) := dk_160 0 6 (dk_at dksX2_feed_0 19 rfl rfl)
theorem dX2_feed_22 : decode cX2_feed 22 = .ok (.bipush (-4), 2) := dk_16 252 (dk_at dksX2_feed_0 22 rfl rfl)
theorem dX2_feed_24 : decode cX2_feed 24 = .ok (.ireturn, 1) := dk_172 (dk_at dksX2_feed_1 0 rfl rfl)
theorem dX2_feed_25 : decode cX2_feed 25 = .ok (.aload_n 0, 1) := dk_42 (dk_at dksX2_feed_1 1 rfl rfl)
theorem dX2_feed_26 : decode cX2_feed 26 = .ok (.getfield 31, 3) := dk_180 0 31 (dk_at dksX2_feed_1 2 rfl rfl)
theorem dX2_feed_29 : decode cX2_feed 29 = .ok (.aload_n 0, 1) := dk_42 (dk_at dksX2_feed_1 5 rfl rfl)
theorem dX2_feed_30 : decode cX2_feed 30 = .ok (.getfield 42, 3) := dk_180 0 42 (dk_at dksX2_feed_1 6 rfl rfl)
theorem dX2_feed_33 : decode cX2_feed 33 = .ok (.iload_n 1, 1) := dk_27 (dk_at dksX2_feed_1 9 rfl rfl)
theorem dX2_feed_34 : decode cX2_feed 34 = .ok (.iastore, 1) := dk_79 (dk_at dksX2_feed_1 10 rfl rfl)
theorem dX2_feed_35 : decode cX2_feed 35 = .ok (.aload_n 0, 1) := dk_42 (dk_at dksX2_feed_1 11 rfl rfl)
theorem dX2_feed_36 : decode cX2_feed 36 = .ok (.dup, 1) := dk_89 (dk_at dksX2_feed_1 12 rfl rfl)
theorem dX2_feed_37 : decode cX2_feed 37 = .ok (.getfield 42, 3) := dk_180 0 42 (dk_at dksX2_feed_1 13 rfl rfl)
theorem dX2_feed_40 : decode cX2_feed 40 = .ok (.iconst 1, 1) := dk_4 (dk_at dksX2_feed_1 16 rfl rfl)
theorem dX2_feed_41 : decode cX2_feed 41 = .ok (.iadd, 1) := dk_96 (dk_at dksX2_feed_1 17 rfl rfl)
theorem dX2_feed_42 : decode cX2_feed 42 = .ok (.putfield 42, 3) := dk_181 0 42 (dk_at dksX2_feed_1 18 rfl rfl)
theorem dX2_feed_45 : decode cX2_feed 45 = .ok (.aload_n 0, 1) := dk_42 (dk_at dksX2_feed_1 21 rfl rfl)
theorem dX2_feed_46 : decode cX2_feed 46 = .ok (.getfield 42, 3) := dk_180 0 42 (dk_at dksX2_feed_2 0 rfl rfl)
theorem dX2_feed_49 : decode cX2_feed 49 = .ok (.ireturn, 1) := dk_172 (dk_at dksX2_feed_2 3 rfl rfl)
theorem fk_2_9 : gFk 2 9 "I" false "WorkflowEngineModel" := fun Cn T N h => by
  have h : (RX2, TX2, 21) = (Cn, T, N) := Option.some.inj h
  cases h
  exact ⟨rfl, rfl, rfl⟩
def t_X2_feed (p1 : Int32) (w0 : TS) : Option (Int32 × TS) := gB2 (t_X2_isIn p1 (nI 0) (nI 127) w0) fun x2 w1 => if x2 = 0 then some ((-2), w1) else if (w1 0 9) = (nI 80) then some ((-4), w1) else gB1 (tSt w1 8 (w1 0 9) p1) fun w5 => gBd (tPut w5 9 ((w5 0 9) + (nI 1))) fun w6 => some ((w6 0 9), w6)
set_option maxHeartbeats 4000000 in
set_option maxRecDepth 100000 in
theorem kt_X2_feed {D : va_G} {dA : Nat → ClassId} {A : Nat → Prop} {K : Nat → Nat} {l : Launch} {wb : gw} {ad : Nat → Nat} (hinj : tInj ad) {h : Nat} (hh : 1 ≤ h) {p1 : Int32} {w0 ww : TS} {rr : Int32} (hf : t_X2_feed p1 w0 = some (rr, ww)) : gMet D dA A K l yX2_feed (ws_ yX2_feed cX2_feed 2 (some .int)) h [(ga (some (ad 0))), (gi p1)] (some (gi rr)) (twOf wb ad w0) (twOf wb ad ww) := by
  refine j_start (own := RX2) (by decide +kernel) rfl (Nat.le_of_ble_eq_true rfl) ?_
  intro p e R s m args below meth c C hr hin hw
  unfold t_X2_feed at hf
  show gJ D dA A K p l e R s m args below meth c (gEnd D dA A K below args s (twOf wb ad w0) (some (gi rr)) (twOf wb ad ww)) 2 0 [(0, (ga (some (ad 0)))), (1, (gi p1))] [] (twOf wb ad w0)
  refine j_iload_n C dX2_feed_0 rfl ?_
  refine j_iconst (v := (nI 0)) C dX2_feed_1 (by decide) ?_
  refine j_bipush (v := (nI 127)) C dX2_feed_2 (by decide) ?_
  replace hf := gB2_e hf
  obtain ⟨x2, w1, ew1, hf⟩ := hf
  refine j_callS (As := [(gi p1), (gi (nI 0)), (gi (nI 127))]) (rest := []) (v := (some (gi x2))) C (by omega) (kt_X2_isIn hinj (by omega) ew1) q1662 q1663 q93 q1664 hd_X2_isIn (by decide) rfl (Nat.le_of_ble_eq_true rfl) dX2_feed_4 ?_
  refine j_if_ne (tgt := 13) C dX2_feed_7 (by decide) (fun c3 => ?_) (fun c3 => ?_)
  · replace hf := gIf_f hf c3
    refine j_aload_n C dX2_feed_13 rfl ?_
    refine j_get (v := (gi (w1 0 9))) C fl_X2_42_2 dX2_feed_14 (tw_F hinj rfl) ?_
    refine j_bipush (v := (nI 80)) C dX2_feed_17 (by decide) ?_
    refine j_icmp_ne (tgt := 25) C dX2_feed_19 (by decide) (fun c4 => ?_) (fun c4 => ?_)
    · replace hf := gIf_f hf c4
      refine j_aload_n C dX2_feed_25 rfl ?_
      refine j_get (v := (ga (some (ad 8)))) C fl_X2_31_2 dX2_feed_26 (tw_F hinj rfl) ?_
      refine j_aload_n C dX2_feed_29 rfl ?_
      refine j_get (v := (gi (w1 0 9))) C fl_X2_42_2 dX2_feed_30 (tw_F hinj rfl) ?_
      refine j_iload_n C dX2_feed_33 rfl ?_
      replace hf := gB1_e hf
      obtain ⟨w5, ew5, hf⟩ := hf
      refine j_iast C (tw_st hinj ew5) dX2_feed_34 ?_
      refine j_aload_n C dX2_feed_35 rfl ?_
      refine j_dup C dX2_feed_36 ?_
      refine j_get (v := (gi (w5 0 9))) C fl_X2_42_2 dX2_feed_37 (tw_F hinj rfl) ?_
      refine j_iconst (v := (nI 1)) C dX2_feed_40 (by decide) ?_
      refine j_iadd C dX2_feed_41 ?_
      replace hf := gBd_x hf
      obtain ⟨w6, ew6, hf⟩ := hf
      refine j_put C fl_X2_42_2 tb_2 (tw_put hinj ew6 rfl (by decide)) fk_2_9 (fit_I ((w5 0 9) + (nI 1))) dX2_feed_42 ?_
      refine j_aload_n C dX2_feed_45 rfl ?_
      refine j_get (v := (gi (w6 0 9))) C fl_X2_42_2 dX2_feed_46 (tw_F hinj rfl) ?_
      obtain ⟨rfl, rfl⟩ := gSome hf
      exact j_iret C hr hw dX2_feed_49
    · replace hf := gIf_t hf c4
      refine j_bipush (v := (-4)) C dX2_feed_22 (by decide) ?_
      obtain ⟨rfl, rfl⟩ := gSome hf
      exact j_iret C hr hw dX2_feed_24
  · replace hf := gIf_t hf c3
    refine j_bipush (v := (-2)) C dX2_feed_10 (by decide) ?_
    obtain ⟨rfl, rfl⟩ := gSome hf
    exact j_iret C hr hw dX2_feed_12
def dkwX2_put_0 : List UInt8 := [42, 180, 0, 9, 16, 16, 27, 28, 184, 0, 67, 29, 79, 177]
abbrev dktX2_put_0 : List UInt8 := dkwX2_put_0 ++ []
theorem dksX2_put_0 : cX2_put.data.toList.drop 0 = dktX2_put_0 := by decide +kernel
theorem dX2_put_0 : decode cX2_put 0 = .ok (.aload_n 0, 1) := dk_42 (dk_at dksX2_put_0 0 rfl rfl)
theorem dX2_put_1 : decode cX2_put 1 = .ok (.getfield 9, 3) := dk_180 0 9 (dk_at dksX2_put_0 1 rfl rfl)
theorem dX2_put_4 : decode cX2_put 4 = .ok (.bipush 16, 2) := dk_16 16 (dk_at dksX2_put_0 4 rfl rfl)
theorem dX2_put_6 : decode cX2_put 6 = .ok (.iload_n 1, 1) := dk_27 (dk_at dksX2_put_0 6 rfl rfl)
theorem dX2_put_7 : decode cX2_put 7 = .ok (.iload_n 2, 1) := dk_28 (dk_at dksX2_put_0 7 rfl rfl)
theorem dX2_put_8 : decode cX2_put 8 = .ok (.invokestatic 67, 3) := dk_184 0 67 (dk_at dksX2_put_0 8 rfl rfl)
theorem dX2_put_11 : decode cX2_put 11 = .ok (.iload_n 3, 1) := dk_29 (dk_at dksX2_put_0 11 rfl rfl)
theorem dX2_put_12 : decode cX2_put 12 = .ok (.iastore, 1) := dk_79 (dk_at dksX2_put_0 12 rfl rfl)
theorem dX2_put_13 : decode cX2_put 13 = .ok (.return_, 1) := dk_177 (dk_at dksX2_put_0 13 rfl rfl)
def t_X2_put (p1 : Int32) (p2 : Int32) (p3 : Int32) (w0 : TS) : Option (Unit × TS) := gB2 (t_X2_part (nI 16) p1 p2 w0) fun x2 w1 => gB1 (tSt w1 1 x2 p3) fun w3 => some ((), w3)
set_option maxHeartbeats 4000000 in
set_option maxRecDepth 100000 in
theorem kt_X2_put {D : va_G} {dA : Nat → ClassId} {A : Nat → Prop} {K : Nat → Nat} {l : Launch} {wb : gw} {ad : Nat → Nat} (hinj : tInj ad) {h : Nat} (hh : 1 ≤ h) {p1 : Int32} {p2 : Int32} {p3 : Int32} {w0 ww : TS} {rr : Unit} (hf : t_X2_put p1 p2 p3 w0 = some (rr, ww)) : gMet D dA A K l yX2_put (ws_ yX2_put cX2_put 4 none) h [(ga (some (ad 0))), (gi p1), (gi p2), (gi p3)] none (twOf wb ad w0) (twOf wb ad ww) := by
  refine j_start (own := RX2) (by decide +kernel) rfl (Nat.le_of_ble_eq_true rfl) ?_
  intro p e R s m args below meth c C hr hin hw
  unfold t_X2_put at hf
  show gJ D dA A K p l e R s m args below meth c (gEnd D dA A K below args s (twOf wb ad w0) none (twOf wb ad ww)) 4 0 [(0, (ga (some (ad 0)))), (1, (gi p1)), (2, (gi p2)), (3, (gi p3))] [] (twOf wb ad w0)
  refine j_aload_n C dX2_put_0 rfl ?_
  refine j_get (v := (ga (some (ad 1)))) C fl_X2_9_2 dX2_put_1 (tw_F hinj rfl) ?_
  refine j_bipush (v := (nI 16)) C dX2_put_4 (by decide) ?_
  refine j_iload_n C dX2_put_6 rfl ?_
  refine j_iload_n C dX2_put_7 rfl ?_
  replace hf := gB2_e hf
  obtain ⟨x2, w1, ew1, hf⟩ := hf
  refine j_callS (As := [(gi (nI 16)), (gi p1), (gi p2)]) (rest := [(ga (some (ad 1)))]) (v := (some (gi x2))) C (by omega) (kt_X2_part hinj (by omega) ew1) q1684 q1685 q93 q1686 hd_X2_part (by decide) rfl (Nat.le_of_ble_eq_true rfl) dX2_put_8 ?_
  refine j_iload_n C dX2_put_11 rfl ?_
  replace hf := gB1_e hf
  obtain ⟨w3, ew3, hf⟩ := hf
  refine j_iast C (tw_st hinj ew3) dX2_put_12 ?_
  obtain ⟨rfl, rfl⟩ := gSome hf
  exact j_vret C hr hw dX2_put_13
def dkwX2_readsTask_5 : List UInt8 := [154, 0, 5, 3, 172, 42, 27, 7, 42, 180, 0, 52, 182, 0, 74, 4, 172]
abbrev dktX2_readsTask_5 : List UInt8 := dkwX2_readsTask_5 ++ []
def dkwX2_readsTask_4 : List UInt8 := [42, 27, 6, 42, 180, 0, 52, 182, 0, 74, 42, 16, 99, 182, 0, 59, 153, 0, 22, 42, 182, 0, 118]
abbrev dktX2_readsTask_4 : List UInt8 := dkwX2_readsTask_4 ++ dktX2_readsTask_5
def dkwX2_readsTask_3 : List UInt8 := [180, 0, 52, 182, 0, 74, 42, 16, 43, 182, 0, 59, 153, 0, 22, 42, 182, 0, 63, 154, 0, 5, 3, 172]
abbrev dktX2_readsTask_3 : List UInt8 := dkwX2_readsTask_3 ++ dktX2_readsTask_4
def dkwX2_readsTask_2 : List UInt8 := [182, 0, 59, 153, 0, 53, 42, 3, 16, 9, 182, 0, 55, 154, 0, 5, 3, 172, 42, 27, 5, 42]
abbrev dktX2_readsTask_2 : List UInt8 := dkwX2_readsTask_2 ++ dktX2_readsTask_3
def dkwX2_readsTask_1 : List UInt8 := [180, 0, 52, 182, 0, 74, 42, 27, 5, 3, 182, 0, 74, 42, 27, 6, 3, 182, 0, 74, 42, 16, 114]
abbrev dktX2_readsTask_1 : List UInt8 := dkwX2_readsTask_1 ++ dktX2_readsTask_2
def dkwX2_readsTask_0 : List UInt8 := [42, 89, 180, 0, 45, 4, 96, 181, 0, 45, 42, 182, 0, 118, 154, 0, 5, 3, 172, 42, 27, 4, 42]
abbrev dktX2_readsTask_0 : List UInt8 := dkwX2_readsTask_0 ++ dktX2_readsTask_1
theorem dksX2_readsTask_0 : cX2_readsTask.data.toList.drop 0 = dktX2_readsTask_0 := by decide +kernel
theorem dksX2_readsTask_1 : cX2_readsTask.data.toList.drop 23 = dktX2_readsTask_1 := dk_seg dksX2_readsTask_0 23 rfl rfl
theorem dksX2_readsTask_2 : cX2_readsTask.data.toList.drop 46 = dktX2_readsTask_2 := dk_seg dksX2_readsTask_1 23 rfl rfl
theorem dksX2_readsTask_3 : cX2_readsTask.data.toList.drop 68 = dktX2_readsTask_3 := dk_seg dksX2_readsTask_2 22 rfl rfl
theorem dksX2_readsTask_4 : cX2_readsTask.data.toList.drop 92 = dktX2_readsTask_4 := dk_seg dksX2_readsTask_3 24 rfl rfl
theorem dksX2_readsTask_5 : cX2_readsTask.data.toList.drop 115 = dktX2_readsTask_5 := dk_seg dksX2_readsTask_4 23 rfl rfl
theorem dX2_readsTask_0 : decode cX2_readsTask 0 = .ok (.aload_n 0, 1) := dk_42 (dk_at dksX2_readsTask_0 0 rfl rfl)
theorem dX2_readsTask_1 : decode cX2_readsTask 1 = .ok (.dup, 1) := dk_89 (dk_at dksX2_readsTask_0 1 rfl rfl)
theorem dX2_readsTask_2 : decode cX2_readsTask 2 = .ok (.getfield 45, 3) := dk_180 0 45 (dk_at dksX2_readsTask_0 2 rfl rfl)
theorem dX2_readsTask_5 : decode cX2_readsTask 5 = .ok (.iconst 1, 1) := dk_4 (dk_at dksX2_readsTask_0 5 rfl rfl)
theorem dX2_readsTask_6 : decode cX2_readsTask 6 = .ok (.iadd, 1) := dk_96 (dk_at dksX2_readsTask_0 6 rfl rfl)
theorem dX2_readsTask_7 : decode cX2_readsTask 7 = .ok (.putfield 45, 3) := dk_181 0 45 (dk_at dksX2_readsTask_0 7 rfl rfl)
theorem dX2_readsTask_10 : decode cX2_readsTask 10 = .ok (.aload_n 0, 1) := dk_42 (dk_at dksX2_readsTask_0 10 rfl rfl)
theorem dX2_readsTask_11 : decode cX2_readsTask 11 = .ok (.invokevirtual 118, 3) := dk_182 0 118 (dk_at dksX2_readsTask_0 11 rfl rfl)
theorem dX2_readsTask_14 : decode cX2_readsTask 14 = .ok (.ifCond .ne 5, 3) := dk_154 0 5 (dk_at dksX2_readsTask_0 14 rfl rfl)
theorem dX2_readsTask_17 : decode cX2_readsTask 17 = .ok (.iconst 0, 1) := dk_3 (dk_at dksX2_readsTask_0 17 rfl rfl)
theorem dX2_readsTask_18 : decode cX2_readsTask 18 = .ok (.ireturn, 1) := dk_172 (dk_at dksX2_readsTask_0 18 rfl rfl)
theorem dX2_readsTask_19 : decode cX2_readsTask 19 = .ok (.aload_n 0, 1) := dk_42 (dk_at dksX2_readsTask_0 19 rfl rfl)
theorem dX2_readsTask_20 : decode cX2_readsTask 20 = .ok (.iload_n 1, 1) := dk_27 (dk_at dksX2_readsTask_0 20 rfl rfl)
theorem dX2_readsTask_21 : decode cX2_readsTask 21 = .ok (.iconst 1, 1) := dk_4 (dk_at dksX2_readsTask_0 21 rfl rfl)
theorem dX2_readsTask_22 : decode cX2_readsTask 22 = .ok (.aload_n 0, 1) := dk_42 (dk_at dksX2_readsTask_0 22 rfl rfl)
theorem dX2_readsTask_23 : decode cX2_readsTask 23 = .ok (.getfield 52, 3) := dk_180 0 52 (dk_at dksX2_readsTask_1 0 rfl rfl)
theorem dX2_readsTask_26 : decode cX2_readsTask 26 = .ok (.invokevirtual 74, 3) := dk_182 0 74 (dk_at dksX2_readsTask_1 3 rfl rfl)
theorem dX2_readsTask_29 : decode cX2_readsTask 29 = .ok (.aload_n 0, 1) := dk_42 (dk_at dksX2_readsTask_1 6 rfl rfl)
theorem dX2_readsTask_30 : decode cX2_readsTask 30 = .ok (.iload_n 1, 1) := dk_27 (dk_at dksX2_readsTask_1 7 rfl rfl)
theorem dX2_readsTask_31 : decode cX2_readsTask 31 = .ok (.iconst 2, 1) := dk_5 (dk_at dksX2_readsTask_1 8 rfl rfl)
theorem dX2_readsTask_32 : decode cX2_readsTask 32 = .ok (.iconst 0, 1) := dk_3 (dk_at dksX2_readsTask_1 9 rfl rfl)
theorem dX2_readsTask_33 : decode cX2_readsTask 33 = .ok (.invokevirtual 74, 3) := dk_182 0 74 (dk_at dksX2_readsTask_1 10 rfl rfl)
theorem dX2_readsTask_36 : decode cX2_readsTask 36 = .ok (.aload_n 0, 1) := dk_42 (dk_at dksX2_readsTask_1 13 rfl rfl)
theorem dX2_readsTask_37 : decode cX2_readsTask 37 = .ok (.iload_n 1, 1) := dk_27 (dk_at dksX2_readsTask_1 14 rfl rfl)
theorem dX2_readsTask_38 : decode cX2_readsTask 38 = .ok (.iconst 3, 1) := dk_6 (dk_at dksX2_readsTask_1 15 rfl rfl)
theorem dX2_readsTask_39 : decode cX2_readsTask 39 = .ok (.iconst 0, 1) := dk_3 (dk_at dksX2_readsTask_1 16 rfl rfl)
theorem dX2_readsTask_40 : decode cX2_readsTask 40 = .ok (.invokevirtual 74, 3) := dk_182 0 74 (dk_at dksX2_readsTask_1 17 rfl rfl)
theorem dX2_readsTask_43 : decode cX2_readsTask 43 = .ok (.aload_n 0, 1) := dk_42 (dk_at dksX2_readsTask_1 20 rfl rfl)
theorem dX2_readsTask_44 : decode cX2_readsTask 44 = .ok (.bipush 114, 2) := dk_16 114 (dk_at dksX2_readsTask_1 21 rfl rfl)
theorem dX2_readsTask_46 : decode cX2_readsTask 46 = .ok (.invokevirtual 59, 3) := dk_182 0 59 (dk_at dksX2_readsTask_2 0 rfl rfl)
theorem dX2_readsTask_49 : decode cX2_readsTask 49 = .ok (.ifCond .eq 53, 3) := dk_153 0 53 (dk_at dksX2_readsTask_2 3 rfl rfl)
theorem dX2_readsTask_52 : decode cX2_readsTask 52 = .ok (.aload_n 0, 1) := dk_42 (dk_at dksX2_readsTask_2 6 rfl rfl)
theorem dX2_readsTask_53 : decode cX2_readsTask 53 = .ok (.iconst 0, 1) := dk_3 (dk_at dksX2_readsTask_2 7 rfl rfl)
theorem dX2_readsTask_54 : decode cX2_readsTask 54 = .ok (.bipush 9, 2) := dk_16 9 (dk_at dksX2_readsTask_2 8 rfl rfl)
theorem dX2_readsTask_56 : decode cX2_readsTask 56 = .ok (.invokevirtual 55, 3) := dk_182 0 55 (dk_at dksX2_readsTask_2 10 rfl rfl)
theorem dX2_readsTask_59 : decode cX2_readsTask 59 = .ok (.ifCond .ne 5, 3) := dk_154 0 5 (dk_at dksX2_readsTask_2 13 rfl rfl)
theorem dX2_readsTask_62 : decode cX2_readsTask 62 = .ok (.iconst 0, 1) := dk_3 (dk_at dksX2_readsTask_2 16 rfl rfl)
theorem dX2_readsTask_63 : decode cX2_readsTask 63 = .ok (.ireturn, 1) := dk_172 (dk_at dksX2_readsTask_2 17 rfl rfl)
theorem dX2_readsTask_64 : decode cX2_readsTask 64 = .ok (.aload_n 0, 1) := dk_42 (dk_at dksX2_readsTask_2 18 rfl rfl)
theorem dX2_readsTask_65 : decode cX2_readsTask 65 = .ok (.iload_n 1, 1) := dk_27 (dk_at dksX2_readsTask_2 19 rfl rfl)
theorem dX2_readsTask_66 : decode cX2_readsTask 66 = .ok (.iconst 2, 1) := dk_5 (dk_at dksX2_readsTask_2 20 rfl rfl)
theorem dX2_readsTask_67 : decode cX2_readsTask 67 = .ok (.aload_n 0, 1) := dk_42 (dk_at dksX2_readsTask_2 21 rfl rfl)
theorem dX2_readsTask_68 : decode cX2_readsTask 68 = .ok (.getfield 52, 3) := dk_180 0 52 (dk_at dksX2_readsTask_3 0 rfl rfl)
theorem dX2_readsTask_71 : decode cX2_readsTask 71 = .ok (.invokevirtual 74, 3) := dk_182 0 74 (dk_at dksX2_readsTask_3 3 rfl rfl)
theorem dX2_readsTask_74 : decode cX2_readsTask 74 = .ok (.aload_n 0, 1) := dk_42 (dk_at dksX2_readsTask_3 6 rfl rfl)
theorem dX2_readsTask_75 : decode cX2_readsTask 75 = .ok (.bipush 43, 2) := dk_16 43 (dk_at dksX2_readsTask_3 7 rfl rfl)
theorem dX2_readsTask_77 : decode cX2_readsTask 77 = .ok (.invokevirtual 59, 3) := dk_182 0 59 (dk_at dksX2_readsTask_3 9 rfl rfl)
theorem dX2_readsTask_80 : decode cX2_readsTask 80 = .ok (.ifCond .eq 22, 3) := dk_153 0 22 (dk_at dksX2_readsTask_3 12 rfl rfl)
theorem dX2_readsTask_83 : decode cX2_readsTask 83 = .ok (.aload_n 0, 1) := dk_42 (dk_at dksX2_readsTask_3 15 rfl rfl)
theorem dX2_readsTask_84 : decode cX2_readsTask 84 = .ok (.invokevirtual 63, 3) := dk_182 0 63 (dk_at dksX2_readsTask_3 16 rfl rfl)
theorem dX2_readsTask_87 : decode cX2_readsTask 87 = .ok (.ifCond .ne 5, 3) := dk_154 0 5 (dk_at dksX2_readsTask_3 19 rfl rfl)
theorem dX2_readsTask_90 : decode cX2_readsTask 90 = .ok (.iconst 0, 1) := dk_3 (dk_at dksX2_readsTask_3 22 rfl rfl)
theorem dX2_readsTask_91 : decode cX2_readsTask 91 = .ok (.ireturn, 1) := dk_172 (dk_at dksX2_readsTask_3 23 rfl rfl)
theorem dX2_readsTask_92 : decode cX2_readsTask 92 = .ok (.aload_n 0, 1) := dk_42 (dk_at dksX2_readsTask_4 0 rfl rfl)
theorem dX2_readsTask_93 : decode cX2_readsTask 93 = .ok (.iload_n 1, 1) := dk_27 (dk_at dksX2_readsTask_4 1 rfl rfl)
theorem dX2_readsTask_94 : decode cX2_readsTask 94 = .ok (.iconst 3, 1) := dk_6 (dk_at dksX2_readsTask_4 2 rfl rfl)
theorem dX2_readsTask_95 : decode cX2_readsTask 95 = .ok (.aload_n 0, 1) := dk_42 (dk_at dksX2_readsTask_4 3 rfl rfl)
theorem dX2_readsTask_96 : decode cX2_readsTask 96 = .ok (.getfield 52, 3) := dk_180 0 52 (dk_at dksX2_readsTask_4 4 rfl rfl)
theorem dX2_readsTask_99 : decode cX2_readsTask 99 = .ok (.invokevirtual 74, 3) := dk_182 0 74 (dk_at dksX2_readsTask_4 7 rfl rfl)
theorem dX2_readsTask_102 : decode cX2_readsTask 102 = .ok (.aload_n 0, 1) := dk_42 (dk_at dksX2_readsTask_4 10 rfl rfl)
theorem dX2_readsTask_103 : decode cX2_readsTask 103 = .ok (.bipush 99, 2) := dk_16 99 (dk_at dksX2_readsTask_4 11 rfl rfl)
theorem dX2_readsTask_105 : decode cX2_readsTask 105 = .ok (.invokevirtual 59, 3) := dk_182 0 59 (dk_at dksX2_readsTask_4 13 rfl rfl)
theorem dX2_readsTask_108 : decode cX2_readsTask 108 = .ok (.ifCond .eq 22, 3) := dk_153 0 22 (dk_at dksX2_readsTask_4 16 rfl rfl)
theorem dX2_readsTask_111 : decode cX2_readsTask 111 = .ok (.aload_n 0, 1) := dk_42 (dk_at dksX2_readsTask_4 19 rfl rfl)
theorem dX2_readsTask_112 : decode cX2_readsTask 112 = .ok (.invokevirtual 118, 3) := dk_182 0 118 (dk_at dksX2_readsTask_4 20 rfl rfl)
theorem dX2_readsTask_115 : decode cX2_readsTask 115 = .ok (.ifCond .ne 5, 3) := dk_154 0 5 (dk_at dksX2_readsTask_5 0 rfl rfl)
theorem dX2_readsTask_118 : decode cX2_readsTask 118 = .ok (.iconst 0, 1) := dk_3 (dk_at dksX2_readsTask_5 3 rfl rfl)
theorem dX2_readsTask_119 : decode cX2_readsTask 119 = .ok (.ireturn, 1) := dk_172 (dk_at dksX2_readsTask_5 4 rfl rfl)
theorem dX2_readsTask_120 : decode cX2_readsTask 120 = .ok (.aload_n 0, 1) := dk_42 (dk_at dksX2_readsTask_5 5 rfl rfl)
theorem dX2_readsTask_121 : decode cX2_readsTask 121 = .ok (.iload_n 1, 1) := dk_27 (dk_at dksX2_readsTask_5 6 rfl rfl)
theorem dX2_readsTask_122 : decode cX2_readsTask 122 = .ok (.iconst 4, 1) := dk_7 (dk_at dksX2_readsTask_5 7 rfl rfl)
theorem dX2_readsTask_123 : decode cX2_readsTask 123 = .ok (.aload_n 0, 1) := dk_42 (dk_at dksX2_readsTask_5 8 rfl rfl)
theorem dX2_readsTask_124 : decode cX2_readsTask 124 = .ok (.getfield 52, 3) := dk_180 0 52 (dk_at dksX2_readsTask_5 9 rfl rfl)
theorem dX2_readsTask_127 : decode cX2_readsTask 127 = .ok (.invokevirtual 74, 3) := dk_182 0 74 (dk_at dksX2_readsTask_5 12 rfl rfl)
theorem dX2_readsTask_130 : decode cX2_readsTask 130 = .ok (.iconst 1, 1) := dk_4 (dk_at dksX2_readsTask_5 15 rfl rfl)
theorem dX2_readsTask_131 : decode cX2_readsTask 131 = .ok (.ireturn, 1) := dk_172 (dk_at dksX2_readsTask_5 16 rfl rfl)
theorem hd_X2_takesCode : (yX2_takesCode.cls ≠ "java/lang/invoke/MethodHandle" ∧ yX2_takesCode.cls ≠ "java/lang/invoke/VarHandle" ∧ (parseMethodDescriptor yX2_takesCode.desc).map (fun d => d.parameters.length) = some 0) := ⟨by decide +kernel, by decide +kernel, by decide +kernel⟩
theorem hd_X2_put : (yX2_put.cls ≠ "java/lang/invoke/MethodHandle" ∧ yX2_put.cls ≠ "java/lang/invoke/VarHandle" ∧ (parseMethodDescriptor yX2_put.desc).map (fun d => d.parameters.length) = some 3) := ⟨by decide +kernel, by decide +kernel, by decide +kernel⟩
def t_X2_readsTask (p1 : Int32) (w0 : TS) : Option (Int32 × TS) := gBd (tPut w0 12 ((w0 0 12) + (nI 1))) fun w1 => gB2 (t_X2_takesCode  w1) fun x3 w2 => if x3 = 0 then some ((nI 0), w2) else gB2 (t_X2_put p1 (nI 1) (w2 0 18) w2) fun _ w5 => gB2 (t_X2_put p1 (nI 2) (nI 0) w5) fun _ w6 => gB2 (t_X2_put p1 (nI 3) (nI 0) w6) fun _ w7 => gB2 (t_X2_takes (nI 114) w7) fun x9 w8 => gBd (fun (x12 : Int32) (w11 : TS) => gB2 (t_X2_takes (nI 99) w11) fun x14 w13 => if x14 = 0 then some ((nI 1), w13) else gB2 (t_X2_takesCode  w13) fun x17 w16 => if x17 = 0 then some ((nI 0), w16) else gB2 (t_X2_put x12 (nI 4) (w16 0 18) w16) fun _ w19 => some ((nI 1), w19)) fun k10 => if x9 = 0 then k10 p1 w8 else gB2 (t_X2_takesDigit (nI 0) (nI 9) w8) fun x22 w21 => if x22 = 0 then some ((nI 0), w21) else gB2 (t_X2_put p1 (nI 2) (w21 0 18) w21) fun _ w24 => gB2 (t_X2_takes (nI 43) w24) fun x26 w25 => if x26 = 0 then k10 p1 w25 else gB2 (t_X2_takesNumber  w25) fun x29 w28 => if x29 = 0 then some ((nI 0), w28) else gB2 (t_X2_put p1 (nI 3) (w28 0 18) w28) fun _ w31 => k10 p1 w31
set_option maxHeartbeats 4000000 in
set_option maxRecDepth 100000 in
theorem kt_X2_readsTask {D : va_G} {dA : Nat → ClassId} {A : Nat → Prop} {K : Nat → Nat} {l : Launch} {wb : gw} {ad : Nat → Nat} (hinj : tInj ad) {h : Nat} (hh : 3 ≤ h) {p1 : Int32} {w0 ww : TS} {rr : Int32} (hf : t_X2_readsTask p1 w0 = some (rr, ww)) : gMet D dA A K l yX2_readsTask (ws_ yX2_readsTask cX2_readsTask 2 (some .boolean)) h [(ga (some (ad 0))), (gi p1)] (some (gi rr)) (twOf wb ad w0) (twOf wb ad ww) := by
  refine j_start (own := RX2) (by decide +kernel) rfl (Nat.le_of_ble_eq_true rfl) ?_
  intro p e R s m args below meth c C hr hin hw
  unfold t_X2_readsTask at hf
  show gJ D dA A K p l e R s m args below meth c (gEnd D dA A K below args s (twOf wb ad w0) (some (gi rr)) (twOf wb ad ww)) 2 0 [(0, (ga (some (ad 0)))), (1, (gi p1))] [] (twOf wb ad w0)
  refine j_aload_n C dX2_readsTask_0 rfl ?_
  refine j_dup C dX2_readsTask_1 ?_
  refine j_get (v := (gi (w0 0 12))) C fl_X2_45_2 dX2_readsTask_2 (tw_F hinj rfl) ?_
  refine j_iconst (v := (nI 1)) C dX2_readsTask_5 (by decide) ?_
  refine j_iadd C dX2_readsTask_6 ?_
  replace hf := gBd_x hf
  obtain ⟨w1, ew1, hf⟩ := hf
  refine j_put C fl_X2_45_2 tb_2 (tw_put hinj ew1 rfl (by decide)) fk_2_12 (fit_I ((w0 0 12) + (nI 1))) dX2_readsTask_7 ?_
  refine j_aload_n C dX2_readsTask_10 rfl ?_
  replace hf := gB2_e hf
  obtain ⟨x3, w2, ew2, hf⟩ := hf
  refine j_callV (As := []) (rest := []) (v := (some (gi x3))) C (by omega) (kt_X2_takesCode hinj (by omega) ew2) (tw_cls hinj) rfl q1706 q1708 qs41 q93 q1709 ⟨rfl, hd_X2_takesCode⟩ (by decide) rfl (Nat.le_of_ble_eq_true rfl) dX2_readsTask_11 ?_
  refine j_if_ne (tgt := 19) C dX2_readsTask_14 (by decide) (fun c4 => ?_) (fun c4 => ?_)
  · replace hf := gIf_f hf c4
    refine j_aload_n C dX2_readsTask_19 rfl ?_
    refine j_iload_n C dX2_readsTask_20 rfl ?_
    refine j_iconst (v := (nI 1)) C dX2_readsTask_21 (by decide) ?_
    refine j_aload_n C dX2_readsTask_22 rfl ?_
    refine j_get (v := (gi (w2 0 18))) C fl_X2_52_2 dX2_readsTask_23 (tw_F hinj rfl) ?_
    replace hf := gB2_e hf
    obtain ⟨_, w5, ew5, hf⟩ := hf
    refine j_callV (As := [(gi p1), (gi (nI 1)), (gi (w2 0 18))]) (rest := []) (v := none) C (by omega) (kt_X2_put hinj (by omega) ew5) (tw_cls hinj) rfl q1680 q1682 qs36 q93 q1683 ⟨rfl, hd_X2_put⟩ (by decide) rfl (Nat.le_of_ble_eq_true rfl) dX2_readsTask_26 ?_
    refine j_aload_n C dX2_readsTask_29 rfl ?_
    refine j_iload_n C dX2_readsTask_30 rfl ?_
    refine j_iconst (v := (nI 2)) C dX2_readsTask_31 (by decide) ?_
    refine j_iconst (v := (nI 0)) C dX2_readsTask_32 (by decide) ?_
    replace hf := gB2_e hf
    obtain ⟨_, w6, ew6, hf⟩ := hf
    refine j_callV (As := [(gi p1), (gi (nI 2)), (gi (nI 0))]) (rest := []) (v := none) C (by omega) (kt_X2_put hinj (by omega) ew6) (tw_cls hinj) rfl q1680 q1682 qs36 q93 q1683 ⟨rfl, hd_X2_put⟩ (by decide) rfl (Nat.le_of_ble_eq_true rfl) dX2_readsTask_33 ?_
    refine j_aload_n C dX2_readsTask_36 rfl ?_
    refine j_iload_n C dX2_readsTask_37 rfl ?_
    refine j_iconst (v := (nI 3)) C dX2_readsTask_38 (by decide) ?_
    refine j_iconst (v := (nI 0)) C dX2_readsTask_39 (by decide) ?_
    replace hf := gB2_e hf
    obtain ⟨_, w7, ew7, hf⟩ := hf
    refine j_callV (As := [(gi p1), (gi (nI 3)), (gi (nI 0))]) (rest := []) (v := none) C (by omega) (kt_X2_put hinj (by omega) ew7) (tw_cls hinj) rfl q1680 q1682 qs36 q93 q1683 ⟨rfl, hd_X2_put⟩ (by decide) rfl (Nat.le_of_ble_eq_true rfl) dX2_readsTask_40 ?_
    refine j_aload_n C dX2_readsTask_43 rfl ?_
    refine j_bipush (v := (nI 114)) C dX2_readsTask_44 (by decide) ?_
    replace hf := gB2_e hf
    obtain ⟨x9, w8, ew8, hf⟩ := hf
    refine j_callV (As := [(gi (nI 114))]) (rest := []) (v := (some (gi x9))) C (by omega) (kt_X2_takes hinj (by omega) ew8) (tw_cls hinj) rfl q1710 q1712 qs42 q93 q1713 ⟨rfl, hd_X2_takes⟩ (by decide) rfl (Nat.le_of_ble_eq_true rfl) dX2_readsTask_46 ?_
    replace hf := gBd_x hf
    obtain ⟨k10, ek10, hf⟩ := hf
    have jk10 : ∀ (x12 : Int32) (w11 : TS), k10 x12 w11 = some (rr, ww) → gJ D dA A K p l e R s m args below meth c (gEnd D dA A K below args s (twOf wb ad w0) (some (gi rr)) (twOf wb ad ww)) 2 102 [(0, (ga (some (ad 0)))), (1, (gi x12))] [] (twOf wb ad w11) := by
      intro x12 w11 hf
      rw [ek10] at hf
      dsimp only at hf
      refine j_aload_n C dX2_readsTask_102 rfl ?_
      refine j_bipush (v := (nI 99)) C dX2_readsTask_103 (by decide) ?_
      replace hf := gB2_e hf
      obtain ⟨x14, w13, ew13, hf⟩ := hf
      refine j_callV (As := [(gi (nI 99))]) (rest := []) (v := (some (gi x14))) C (by omega) (kt_X2_takes hinj (by omega) ew13) (tw_cls hinj) rfl q1710 q1712 qs42 q93 q1713 ⟨rfl, hd_X2_takes⟩ (by decide) rfl (Nat.le_of_ble_eq_true rfl) dX2_readsTask_105 ?_
      refine j_if_eq (tgt := 130) C dX2_readsTask_108 (by decide) (fun c15 => ?_) (fun c15 => ?_)
      · replace hf := gIf_t hf c15
        refine j_iconst (v := (nI 1)) C dX2_readsTask_130 (by decide) ?_
        obtain ⟨rfl, rfl⟩ := gSome hf
        exact j_zret C hr (by decide) hw dX2_readsTask_131
      · replace hf := gIf_f hf c15
        refine j_aload_n C dX2_readsTask_111 rfl ?_
        replace hf := gB2_e hf
        obtain ⟨x17, w16, ew16, hf⟩ := hf
        refine j_callV (As := []) (rest := []) (v := (some (gi x17))) C (by omega) (kt_X2_takesCode hinj (by omega) ew16) (tw_cls hinj) rfl q1706 q1708 qs41 q93 q1709 ⟨rfl, hd_X2_takesCode⟩ (by decide) rfl (Nat.le_of_ble_eq_true rfl) dX2_readsTask_112 ?_
        refine j_if_ne (tgt := 120) C dX2_readsTask_115 (by decide) (fun c18 => ?_) (fun c18 => ?_)
        · replace hf := gIf_f hf c18
          refine j_aload_n C dX2_readsTask_120 rfl ?_
          refine j_iload_n C dX2_readsTask_121 rfl ?_
          refine j_iconst (v := (nI 4)) C dX2_readsTask_122 (by decide) ?_
          refine j_aload_n C dX2_readsTask_123 rfl ?_
          refine j_get (v := (gi (w16 0 18))) C fl_X2_52_2 dX2_readsTask_124 (tw_F hinj rfl) ?_
          replace hf := gB2_e hf
          obtain ⟨_, w19, ew19, hf⟩ := hf
          refine j_callV (As := [(gi x12), (gi (nI 4)), (gi (w16 0 18))]) (rest := []) (v := none) C (by omega) (kt_X2_put hinj (by omega) ew19) (tw_cls hinj) rfl q1680 q1682 qs36 q93 q1683 ⟨rfl, hd_X2_put⟩ (by decide) rfl (Nat.le_of_ble_eq_true rfl) dX2_readsTask_127 ?_
          refine j_iconst (v := (nI 1)) C dX2_readsTask_130 (by decide) ?_
          obtain ⟨rfl, rfl⟩ := gSome hf
          exact j_zret C hr (by decide) hw dX2_readsTask_131
        · replace hf := gIf_t hf c18
          refine j_iconst (v := (nI 0)) C dX2_readsTask_118 (by decide) ?_
          obtain ⟨rfl, rfl⟩ := gSome hf
          exact j_zret C hr (by decide) hw dX2_readsTask_119
    clear ek10
    refine j_if_eq (tgt := 102) C dX2_readsTask_49 (by decide) (fun c20 => ?_) (fun c20 => ?_)
    · replace hf := gIf_t hf c20
      exact jk10 _ _ hf
    · replace hf := gIf_f hf c20
      refine j_aload_n C dX2_readsTask_52 rfl ?_
      refine j_iconst (v := (nI 0)) C dX2_readsTask_53 (by decide) ?_
      refine j_bipush (v := (nI 9)) C dX2_readsTask_54 (by decide) ?_
      replace hf := gB2_e hf
      obtain ⟨x22, w21, ew21, hf⟩ := hf
      refine j_callV (As := [(gi (nI 0)), (gi (nI 9))]) (rest := []) (v := (some (gi x22))) C (by omega) (kt_X2_takesDigit hinj (by omega) ew21) (tw_cls hinj) rfl q1714 q1716 qs43 q93 q1717 ⟨rfl, hd_X2_takesDigit⟩ (by decide) rfl (Nat.le_of_ble_eq_true rfl) dX2_readsTask_56 ?_
      refine j_if_ne (tgt := 64) C dX2_readsTask_59 (by decide) (fun c23 => ?_) (fun c23 => ?_)
      · replace hf := gIf_f hf c23
        refine j_aload_n C dX2_readsTask_64 rfl ?_
        refine j_iload_n C dX2_readsTask_65 rfl ?_
        refine j_iconst (v := (nI 2)) C dX2_readsTask_66 (by decide) ?_
        refine j_aload_n C dX2_readsTask_67 rfl ?_
        refine j_get (v := (gi (w21 0 18))) C fl_X2_52_2 dX2_readsTask_68 (tw_F hinj rfl) ?_
        replace hf := gB2_e hf
        obtain ⟨_, w24, ew24, hf⟩ := hf
        refine j_callV (As := [(gi p1), (gi (nI 2)), (gi (w21 0 18))]) (rest := []) (v := none) C (by omega) (kt_X2_put hinj (by omega) ew24) (tw_cls hinj) rfl q1680 q1682 qs36 q93 q1683 ⟨rfl, hd_X2_put⟩ (by decide) rfl (Nat.le_of_ble_eq_true rfl) dX2_readsTask_71 ?_
        refine j_aload_n C dX2_readsTask_74 rfl ?_
        refine j_bipush (v := (nI 43)) C dX2_readsTask_75 (by decide) ?_
        replace hf := gB2_e hf
        obtain ⟨x26, w25, ew25, hf⟩ := hf
        refine j_callV (As := [(gi (nI 43))]) (rest := []) (v := (some (gi x26))) C (by omega) (kt_X2_takes hinj (by omega) ew25) (tw_cls hinj) rfl q1710 q1712 qs42 q93 q1713 ⟨rfl, hd_X2_takes⟩ (by decide) rfl (Nat.le_of_ble_eq_true rfl) dX2_readsTask_77 ?_
        refine j_if_eq (tgt := 102) C dX2_readsTask_80 (by decide) (fun c27 => ?_) (fun c27 => ?_)
        · replace hf := gIf_t hf c27
          exact jk10 _ _ hf
        · replace hf := gIf_f hf c27
          refine j_aload_n C dX2_readsTask_83 rfl ?_
          replace hf := gB2_e hf
          obtain ⟨x29, w28, ew28, hf⟩ := hf
          refine j_callV (As := []) (rest := []) (v := (some (gi x29))) C (by omega) (kt_X2_takesNumber hinj (by omega) ew28) (tw_cls hinj) rfl q1718 q1720 qs44 q93 q1721 ⟨rfl, hd_X2_takesNumber⟩ (by decide) rfl (Nat.le_of_ble_eq_true rfl) dX2_readsTask_84 ?_
          refine j_if_ne (tgt := 92) C dX2_readsTask_87 (by decide) (fun c30 => ?_) (fun c30 => ?_)
          · replace hf := gIf_f hf c30
            refine j_aload_n C dX2_readsTask_92 rfl ?_
            refine j_iload_n C dX2_readsTask_93 rfl ?_
            refine j_iconst (v := (nI 3)) C dX2_readsTask_94 (by decide) ?_
            refine j_aload_n C dX2_readsTask_95 rfl ?_
            refine j_get (v := (gi (w28 0 18))) C fl_X2_52_2 dX2_readsTask_96 (tw_F hinj rfl) ?_
            replace hf := gB2_e hf
            obtain ⟨_, w31, ew31, hf⟩ := hf
            refine j_callV (As := [(gi p1), (gi (nI 3)), (gi (w28 0 18))]) (rest := []) (v := none) C (by omega) (kt_X2_put hinj (by omega) ew31) (tw_cls hinj) rfl q1680 q1682 qs36 q93 q1683 ⟨rfl, hd_X2_put⟩ (by decide) rfl (Nat.le_of_ble_eq_true rfl) dX2_readsTask_99 ?_
            exact jk10 _ _ hf
          · replace hf := gIf_t hf c30
            refine j_iconst (v := (nI 0)) C dX2_readsTask_90 (by decide) ?_
            obtain ⟨rfl, rfl⟩ := gSome hf
            exact j_zret C hr (by decide) hw dX2_readsTask_91
      · replace hf := gIf_t hf c23
        refine j_iconst (v := (nI 0)) C dX2_readsTask_62 (by decide) ?_
        obtain ⟨rfl, rfl⟩ := gSome hf
        exact j_zret C hr (by decide) hw dX2_readsTask_63
  · replace hf := gIf_t hf c4
    refine j_iconst (v := (nI 0)) C dX2_readsTask_17 (by decide) ?_
    obtain ⟨rfl, rfl⟩ := gSome hf
    exact j_zret C hr (by decide) hw dX2_readsTask_18
def dkwX2_readsWait_1 : List UInt8 := [182, 0, 74, 28, 172]
abbrev dktX2_readsWait_1 : List UInt8 := dkwX2_readsWait_1 ++ []
def dkwX2_readsWait_0 : List UInt8 := [42, 89, 180, 0, 45, 4, 96, 181, 0, 45, 42, 182, 0, 63, 61, 42, 27, 4, 42, 180, 0, 52]
abbrev dktX2_readsWait_0 : List UInt8 := dkwX2_readsWait_0 ++ dktX2_readsWait_1
theorem dksX2_readsWait_0 : cX2_readsWait.data.toList.drop 0 = dktX2_readsWait_0 := by decide +kernel
theorem dksX2_readsWait_1 : cX2_readsWait.data.toList.drop 22 = dktX2_readsWait_1 := dk_seg dksX2_readsWait_0 22 rfl rfl
theorem dX2_readsWait_0 : decode cX2_readsWait 0 = .ok (.aload_n 0, 1) := dk_42 (dk_at dksX2_readsWait_0 0 rfl rfl)
theorem dX2_readsWait_1 : decode cX2_readsWait 1 = .ok (.dup, 1) := dk_89 (dk_at dksX2_readsWait_0 1 rfl rfl)
theorem dX2_readsWait_2 : decode cX2_readsWait 2 = .ok (.getfield 45, 3) := dk_180 0 45 (dk_at dksX2_readsWait_0 2 rfl rfl)
theorem dX2_readsWait_5 : decode cX2_readsWait 5 = .ok (.iconst 1, 1) := dk_4 (dk_at dksX2_readsWait_0 5 rfl rfl)
theorem dX2_readsWait_6 : decode cX2_readsWait 6 = .ok (.iadd, 1) := dk_96 (dk_at dksX2_readsWait_0 6 rfl rfl)
theorem dX2_readsWait_7 : decode cX2_readsWait 7 = .ok (.putfield 45, 3) := dk_181 0 45 (dk_at dksX2_readsWait_0 7 rfl rfl)
theorem dX2_readsWait_10 : decode cX2_readsWait 10 = .ok (.aload_n 0, 1) := dk_42 (dk_at dksX2_readsWait_0 10 rfl rfl)
theorem dX2_readsWait_11 : decode cX2_readsWait 11 = .ok (.invokevirtual 63, 3) := dk_182 0 63 (dk_at dksX2_readsWait_0 11 rfl rfl)
theorem dX2_readsWait_14 : decode cX2_readsWait 14 = .ok (.istore_n 2, 1) := dk_61 (dk_at dksX2_readsWait_0 14 rfl rfl)
theorem dX2_readsWait_15 : decode cX2_readsWait 15 = .ok (.aload_n 0, 1) := dk_42 (dk_at dksX2_readsWait_0 15 rfl rfl)
theorem dX2_readsWait_16 : decode cX2_readsWait 16 = .ok (.iload_n 1, 1) := dk_27 (dk_at dksX2_readsWait_0 16 rfl rfl)
theorem dX2_readsWait_17 : decode cX2_readsWait 17 = .ok (.iconst 1, 1) := dk_4 (dk_at dksX2_readsWait_0 17 rfl rfl)
theorem dX2_readsWait_18 : decode cX2_readsWait 18 = .ok (.aload_n 0, 1) := dk_42 (dk_at dksX2_readsWait_0 18 rfl rfl)
theorem dX2_readsWait_19 : decode cX2_readsWait 19 = .ok (.getfield 52, 3) := dk_180 0 52 (dk_at dksX2_readsWait_0 19 rfl rfl)
theorem dX2_readsWait_22 : decode cX2_readsWait 22 = .ok (.invokevirtual 74, 3) := dk_182 0 74 (dk_at dksX2_readsWait_1 0 rfl rfl)
theorem dX2_readsWait_25 : decode cX2_readsWait 25 = .ok (.iload_n 2, 1) := dk_28 (dk_at dksX2_readsWait_1 3 rfl rfl)
theorem dX2_readsWait_26 : decode cX2_readsWait 26 = .ok (.ireturn, 1) := dk_172 (dk_at dksX2_readsWait_1 4 rfl rfl)
def t_X2_readsWait (p1 : Int32) (w0 : TS) : Option (Int32 × TS) := gBd (tPut w0 12 ((w0 0 12) + (nI 1))) fun w1 => gB2 (t_X2_takesNumber  w1) fun x3 w2 => gB2 (t_X2_put p1 (nI 1) (w2 0 18) w2) fun _ w4 => gB1 (gZ x3) fun _ => some (x3, w4)
set_option maxHeartbeats 4000000 in
set_option maxRecDepth 100000 in
theorem kt_X2_readsWait {D : va_G} {dA : Nat → ClassId} {A : Nat → Prop} {K : Nat → Nat} {l : Launch} {wb : gw} {ad : Nat → Nat} (hinj : tInj ad) {h : Nat} (hh : 3 ≤ h) {p1 : Int32} {w0 ww : TS} {rr : Int32} (hf : t_X2_readsWait p1 w0 = some (rr, ww)) : gMet D dA A K l yX2_readsWait (ws_ yX2_readsWait cX2_readsWait 3 (some .boolean)) h [(ga (some (ad 0))), (gi p1)] (some (gi rr)) (twOf wb ad w0) (twOf wb ad ww) := by
  refine j_start (own := RX2) (by decide +kernel) rfl (Nat.le_of_ble_eq_true rfl) ?_
  intro p e R s m args below meth c C hr hin hw
  unfold t_X2_readsWait at hf
  show gJ D dA A K p l e R s m args below meth c (gEnd D dA A K below args s (twOf wb ad w0) (some (gi rr)) (twOf wb ad ww)) 3 0 [(0, (ga (some (ad 0)))), (1, (gi p1))] [] (twOf wb ad w0)
  refine j_aload_n C dX2_readsWait_0 rfl ?_
  refine j_dup C dX2_readsWait_1 ?_
  refine j_get (v := (gi (w0 0 12))) C fl_X2_45_2 dX2_readsWait_2 (tw_F hinj rfl) ?_
  refine j_iconst (v := (nI 1)) C dX2_readsWait_5 (by decide) ?_
  refine j_iadd C dX2_readsWait_6 ?_
  replace hf := gBd_x hf
  obtain ⟨w1, ew1, hf⟩ := hf
  refine j_put C fl_X2_45_2 tb_2 (tw_put hinj ew1 rfl (by decide)) fk_2_12 (fit_I ((w0 0 12) + (nI 1))) dX2_readsWait_7 ?_
  refine j_aload_n C dX2_readsWait_10 rfl ?_
  replace hf := gB2_e hf
  obtain ⟨x3, w2, ew2, hf⟩ := hf
  refine j_callV (As := []) (rest := []) (v := (some (gi x3))) C (by omega) (kt_X2_takesNumber hinj (by omega) ew2) (tw_cls hinj) rfl q1718 q1720 qs44 q93 q1721 ⟨rfl, hd_X2_takesNumber⟩ (by decide) rfl (Nat.le_of_ble_eq_true rfl) dX2_readsWait_11 ?_
  refine j_istore_n (lv' := [(2, (gi x3)), (0, (ga (some (ad 0)))), (1, (gi p1))]) C dX2_readsWait_14 (by decide) rfl ?_
  refine j_aload_n C dX2_readsWait_15 rfl ?_
  refine j_iload_n C dX2_readsWait_16 rfl ?_
  refine j_iconst (v := (nI 1)) C dX2_readsWait_17 (by decide) ?_
  refine j_aload_n C dX2_readsWait_18 rfl ?_
  refine j_get (v := (gi (w2 0 18))) C fl_X2_52_2 dX2_readsWait_19 (tw_F hinj rfl) ?_
  replace hf := gB2_e hf
  obtain ⟨_, w4, ew4, hf⟩ := hf
  refine j_callV (As := [(gi p1), (gi (nI 1)), (gi (w2 0 18))]) (rest := []) (v := none) C (by omega) (kt_X2_put hinj (by omega) ew4) (tw_cls hinj) rfl q1680 q1682 qs36 q93 q1683 ⟨rfl, hd_X2_put⟩ (by decide) rfl (Nat.le_of_ble_eq_true rfl) dX2_readsWait_22 ?_
  refine j_iload_n C dX2_readsWait_25 rfl ?_
  replace hf := gB1_e hf
  obtain ⟨_, ez, hf⟩ := hf
  obtain ⟨rfl, rfl⟩ := gSome hf
  exact j_zret C hr (gZ_n (gZ_e ez)) hw dX2_readsWait_26
def dkwX2_readsSignal_2 : List UInt8 := [42, 27, 5, 42, 180, 0, 52, 182, 0, 74, 4, 172]
abbrev dktX2_readsSignal_2 : List UInt8 := dkwX2_readsSignal_2 ++ []
def dkwX2_readsSignal_1 : List UInt8 := [180, 0, 52, 182, 0, 74, 42, 16, 44, 182, 0, 59, 153, 0, 22, 42, 182, 0, 63, 154, 0, 5, 3, 172]
abbrev dktX2_readsSignal_1 : List UInt8 := dkwX2_readsSignal_1 ++ dktX2_readsSignal_2
def dkwX2_readsSignal_0 : List UInt8 := [42, 89, 180, 0, 45, 4, 96, 181, 0, 45, 42, 182, 0, 118, 154, 0, 5, 3, 172, 42, 27, 4, 42]
abbrev dktX2_readsSignal_0 : List UInt8 := dkwX2_readsSignal_0 ++ dktX2_readsSignal_1
theorem dksX2_readsSignal_0 : cX2_readsSignal.data.toList.drop 0 = dktX2_readsSignal_0 := by decide +kernel
theorem dksX2_readsSignal_1 : cX2_readsSignal.data.toList.drop 23 = dktX2_readsSignal_1 := dk_seg dksX2_readsSignal_0 23 rfl rfl
theorem dksX2_readsSignal_2 : cX2_readsSignal.data.toList.drop 47 = dktX2_readsSignal_2 := dk_seg dksX2_readsSignal_1 24 rfl rfl
theorem dX2_readsSignal_0 : decode cX2_readsSignal 0 = .ok (.aload_n 0, 1) := dk_42 (dk_at dksX2_readsSignal_0 0 rfl rfl)
theorem dX2_readsSignal_1 : decode cX2_readsSignal 1 = .ok (.dup, 1) := dk_89 (dk_at dksX2_readsSignal_0 1 rfl rfl)
theorem dX2_readsSignal_2 : decode cX2_readsSignal 2 = .ok (.getfield 45, 3) := dk_180 0 45 (dk_at dksX2_readsSignal_0 2 rfl rfl)
theorem dX2_readsSignal_5 : decode cX2_readsSignal 5 = .ok (.iconst 1, 1) := dk_4 (dk_at dksX2_readsSignal_0 5 rfl rfl)
theorem dX2_readsSignal_6 : decode cX2_readsSignal 6 = .ok (.iadd, 1) := dk_96 (dk_at dksX2_readsSignal_0 6 rfl rfl)
theorem dX2_readsSignal_7 : decode cX2_readsSignal 7 = .ok (.putfield 45, 3) := dk_181 0 45 (dk_at dksX2_readsSignal_0 7 rfl rfl)
theorem dX2_readsSignal_10 : decode cX2_readsSignal 10 = .ok (.aload_n 0, 1) := dk_42 (dk_at dksX2_readsSignal_0 10 rfl rfl)
theorem dX2_readsSignal_11 : decode cX2_readsSignal 11 = .ok (.invokevirtual 118, 3) := dk_182 0 118 (dk_at dksX2_readsSignal_0 11 rfl rfl)
theorem dX2_readsSignal_14 : decode cX2_readsSignal 14 = .ok (.ifCond .ne 5, 3) := dk_154 0 5 (dk_at dksX2_readsSignal_0 14 rfl rfl)
theorem dX2_readsSignal_17 : decode cX2_readsSignal 17 = .ok (.iconst 0, 1) := dk_3 (dk_at dksX2_readsSignal_0 17 rfl rfl)
theorem dX2_readsSignal_18 : decode cX2_readsSignal 18 = .ok (.ireturn, 1) := dk_172 (dk_at dksX2_readsSignal_0 18 rfl rfl)
theorem dX2_readsSignal_19 : decode cX2_readsSignal 19 = .ok (.aload_n 0, 1) := dk_42 (dk_at dksX2_readsSignal_0 19 rfl rfl)
theorem dX2_readsSignal_20 : decode cX2_readsSignal 20 = .ok (.iload_n 1, 1) := dk_27 (dk_at dksX2_readsSignal_0 20 rfl rfl)
theorem dX2_readsSignal_21 : decode cX2_readsSignal 21 = .ok (.iconst 1, 1) := dk_4 (dk_at dksX2_readsSignal_0 21 rfl rfl)
theorem dX2_readsSignal_22 : decode cX2_readsSignal 22 = .ok (.aload_n 0, 1) := dk_42 (dk_at dksX2_readsSignal_0 22 rfl rfl)
theorem dX2_readsSignal_23 : decode cX2_readsSignal 23 = .ok (.getfield 52, 3) := dk_180 0 52 (dk_at dksX2_readsSignal_1 0 rfl rfl)
theorem dX2_readsSignal_26 : decode cX2_readsSignal 26 = .ok (.invokevirtual 74, 3) := dk_182 0 74 (dk_at dksX2_readsSignal_1 3 rfl rfl)
theorem dX2_readsSignal_29 : decode cX2_readsSignal 29 = .ok (.aload_n 0, 1) := dk_42 (dk_at dksX2_readsSignal_1 6 rfl rfl)
theorem dX2_readsSignal_30 : decode cX2_readsSignal 30 = .ok (.bipush 44, 2) := dk_16 44 (dk_at dksX2_readsSignal_1 7 rfl rfl)
theorem dX2_readsSignal_32 : decode cX2_readsSignal 32 = .ok (.invokevirtual 59, 3) := dk_182 0 59 (dk_at dksX2_readsSignal_1 9 rfl rfl)
theorem dX2_readsSignal_35 : decode cX2_readsSignal 35 = .ok (.ifCond .eq 22, 3) := dk_153 0 22 (dk_at dksX2_readsSignal_1 12 rfl rfl)
theorem dX2_readsSignal_38 : decode cX2_readsSignal 38 = .ok (.aload_n 0, 1) := dk_42 (dk_at dksX2_readsSignal_1 15 rfl rfl)
theorem dX2_readsSignal_39 : decode cX2_readsSignal 39 = .ok (.invokevirtual 63, 3) := dk_182 0 63 (dk_at dksX2_readsSignal_1 16 rfl rfl)
theorem dX2_readsSignal_42 : decode cX2_readsSignal 42 = .ok (.ifCond .ne 5, 3) := dk_154 0 5 (dk_at dksX2_readsSignal_1 19 rfl rfl)
theorem dX2_readsSignal_45 : decode cX2_readsSignal 45 = .ok (.iconst 0, 1) := dk_3 (dk_at dksX2_readsSignal_1 22 rfl rfl)
theorem dX2_readsSignal_46 : decode cX2_readsSignal 46 = .ok (.ireturn, 1) := dk_172 (dk_at dksX2_readsSignal_1 23 rfl rfl)
theorem dX2_readsSignal_47 : decode cX2_readsSignal 47 = .ok (.aload_n 0, 1) := dk_42 (dk_at dksX2_readsSignal_2 0 rfl rfl)
theorem dX2_readsSignal_48 : decode cX2_readsSignal 48 = .ok (.iload_n 1, 1) := dk_27 (dk_at dksX2_readsSignal_2 1 rfl rfl)
theorem dX2_readsSignal_49 : decode cX2_readsSignal 49 = .ok (.iconst 2, 1) := dk_5 (dk_at dksX2_readsSignal_2 2 rfl rfl)
theorem dX2_readsSignal_50 : decode cX2_readsSignal 50 = .ok (.aload_n 0, 1) := dk_42 (dk_at dksX2_readsSignal_2 3 rfl rfl)
theorem dX2_readsSignal_51 : decode cX2_readsSignal 51 = .ok (.getfield 52, 3) := dk_180 0 52 (dk_at dksX2_readsSignal_2 4 rfl rfl)
theorem dX2_readsSignal_54 : decode cX2_readsSignal 54 = .ok (.invokevirtual 74, 3) := dk_182 0 74 (dk_at dksX2_readsSignal_2 7 rfl rfl)
theorem dX2_readsSignal_57 : decode cX2_readsSignal 57 = .ok (.iconst 1, 1) := dk_4 (dk_at dksX2_readsSignal_2 10 rfl rfl)
theorem dX2_readsSignal_58 : decode cX2_readsSignal 58 = .ok (.ireturn, 1) := dk_172 (dk_at dksX2_readsSignal_2 11 rfl rfl)
def t_X2_readsSignal (p1 : Int32) (w0 : TS) : Option (Int32 × TS) := gBd (tPut w0 12 ((w0 0 12) + (nI 1))) fun w1 => gB2 (t_X2_takesCode  w1) fun x3 w2 => if x3 = 0 then some ((nI 0), w2) else gB2 (t_X2_put p1 (nI 1) (w2 0 18) w2) fun _ w5 => gB2 (t_X2_takes (nI 44) w5) fun x7 w6 => if x7 = 0 then some ((nI 1), w6) else gB2 (t_X2_takesNumber  w6) fun x10 w9 => if x10 = 0 then some ((nI 0), w9) else gB2 (t_X2_put p1 (nI 2) (w9 0 18) w9) fun _ w12 => some ((nI 1), w12)
set_option maxHeartbeats 4000000 in
set_option maxRecDepth 100000 in
theorem kt_X2_readsSignal {D : va_G} {dA : Nat → ClassId} {A : Nat → Prop} {K : Nat → Nat} {l : Launch} {wb : gw} {ad : Nat → Nat} (hinj : tInj ad) {h : Nat} (hh : 3 ≤ h) {p1 : Int32} {w0 ww : TS} {rr : Int32} (hf : t_X2_readsSignal p1 w0 = some (rr, ww)) : gMet D dA A K l yX2_readsSignal (ws_ yX2_readsSignal cX2_readsSignal 2 (some .boolean)) h [(ga (some (ad 0))), (gi p1)] (some (gi rr)) (twOf wb ad w0) (twOf wb ad ww) := by
  refine j_start (own := RX2) (by decide +kernel) rfl (Nat.le_of_ble_eq_true rfl) ?_
  intro p e R s m args below meth c C hr hin hw
  unfold t_X2_readsSignal at hf
  show gJ D dA A K p l e R s m args below meth c (gEnd D dA A K below args s (twOf wb ad w0) (some (gi rr)) (twOf wb ad ww)) 2 0 [(0, (ga (some (ad 0)))), (1, (gi p1))] [] (twOf wb ad w0)
  refine j_aload_n C dX2_readsSignal_0 rfl ?_
  refine j_dup C dX2_readsSignal_1 ?_
  refine j_get (v := (gi (w0 0 12))) C fl_X2_45_2 dX2_readsSignal_2 (tw_F hinj rfl) ?_
  refine j_iconst (v := (nI 1)) C dX2_readsSignal_5 (by decide) ?_
  refine j_iadd C dX2_readsSignal_6 ?_
  replace hf := gBd_x hf
  obtain ⟨w1, ew1, hf⟩ := hf
  refine j_put C fl_X2_45_2 tb_2 (tw_put hinj ew1 rfl (by decide)) fk_2_12 (fit_I ((w0 0 12) + (nI 1))) dX2_readsSignal_7 ?_
  refine j_aload_n C dX2_readsSignal_10 rfl ?_
  replace hf := gB2_e hf
  obtain ⟨x3, w2, ew2, hf⟩ := hf
  refine j_callV (As := []) (rest := []) (v := (some (gi x3))) C (by omega) (kt_X2_takesCode hinj (by omega) ew2) (tw_cls hinj) rfl q1706 q1708 qs41 q93 q1709 ⟨rfl, hd_X2_takesCode⟩ (by decide) rfl (Nat.le_of_ble_eq_true rfl) dX2_readsSignal_11 ?_
  refine j_if_ne (tgt := 19) C dX2_readsSignal_14 (by decide) (fun c4 => ?_) (fun c4 => ?_)
  · replace hf := gIf_f hf c4
    refine j_aload_n C dX2_readsSignal_19 rfl ?_
    refine j_iload_n C dX2_readsSignal_20 rfl ?_
    refine j_iconst (v := (nI 1)) C dX2_readsSignal_21 (by decide) ?_
    refine j_aload_n C dX2_readsSignal_22 rfl ?_
    refine j_get (v := (gi (w2 0 18))) C fl_X2_52_2 dX2_readsSignal_23 (tw_F hinj rfl) ?_
    replace hf := gB2_e hf
    obtain ⟨_, w5, ew5, hf⟩ := hf
    refine j_callV (As := [(gi p1), (gi (nI 1)), (gi (w2 0 18))]) (rest := []) (v := none) C (by omega) (kt_X2_put hinj (by omega) ew5) (tw_cls hinj) rfl q1680 q1682 qs36 q93 q1683 ⟨rfl, hd_X2_put⟩ (by decide) rfl (Nat.le_of_ble_eq_true rfl) dX2_readsSignal_26 ?_
    refine j_aload_n C dX2_readsSignal_29 rfl ?_
    refine j_bipush (v := (nI 44)) C dX2_readsSignal_30 (by decide) ?_
    replace hf := gB2_e hf
    obtain ⟨x7, w6, ew6, hf⟩ := hf
    refine j_callV (As := [(gi (nI 44))]) (rest := []) (v := (some (gi x7))) C (by omega) (kt_X2_takes hinj (by omega) ew6) (tw_cls hinj) rfl q1710 q1712 qs42 q93 q1713 ⟨rfl, hd_X2_takes⟩ (by decide) rfl (Nat.le_of_ble_eq_true rfl) dX2_readsSignal_32 ?_
    refine j_if_eq (tgt := 57) C dX2_readsSignal_35 (by decide) (fun c8 => ?_) (fun c8 => ?_)
    · replace hf := gIf_t hf c8
      refine j_iconst (v := (nI 1)) C dX2_readsSignal_57 (by decide) ?_
      obtain ⟨rfl, rfl⟩ := gSome hf
      exact j_zret C hr (by decide) hw dX2_readsSignal_58
    · replace hf := gIf_f hf c8
      refine j_aload_n C dX2_readsSignal_38 rfl ?_
      replace hf := gB2_e hf
      obtain ⟨x10, w9, ew9, hf⟩ := hf
      refine j_callV (As := []) (rest := []) (v := (some (gi x10))) C (by omega) (kt_X2_takesNumber hinj (by omega) ew9) (tw_cls hinj) rfl q1718 q1720 qs44 q93 q1721 ⟨rfl, hd_X2_takesNumber⟩ (by decide) rfl (Nat.le_of_ble_eq_true rfl) dX2_readsSignal_39 ?_
      refine j_if_ne (tgt := 47) C dX2_readsSignal_42 (by decide) (fun c11 => ?_) (fun c11 => ?_)
      · replace hf := gIf_f hf c11
        refine j_aload_n C dX2_readsSignal_47 rfl ?_
        refine j_iload_n C dX2_readsSignal_48 rfl ?_
        refine j_iconst (v := (nI 2)) C dX2_readsSignal_49 (by decide) ?_
        refine j_aload_n C dX2_readsSignal_50 rfl ?_
        refine j_get (v := (gi (w9 0 18))) C fl_X2_52_2 dX2_readsSignal_51 (tw_F hinj rfl) ?_
        replace hf := gB2_e hf
        obtain ⟨_, w12, ew12, hf⟩ := hf
        refine j_callV (As := [(gi p1), (gi (nI 2)), (gi (w9 0 18))]) (rest := []) (v := none) C (by omega) (kt_X2_put hinj (by omega) ew12) (tw_cls hinj) rfl q1680 q1682 qs36 q93 q1683 ⟨rfl, hd_X2_put⟩ (by decide) rfl (Nat.le_of_ble_eq_true rfl) dX2_readsSignal_54 ?_
        refine j_iconst (v := (nI 1)) C dX2_readsSignal_57 (by decide) ?_
        obtain ⟨rfl, rfl⟩ := gSome hf
        exact j_zret C hr (by decide) hw dX2_readsSignal_58
      · replace hf := gIf_t hf c11
        refine j_iconst (v := (nI 0)) C dX2_readsSignal_45 (by decide) ?_
        obtain ⟨rfl, rfl⟩ := gSome hf
        exact j_zret C hr (by decide) hw dX2_readsSignal_46
  · replace hf := gIf_t hf c4
    refine j_iconst (v := (nI 0)) C dX2_readsSignal_17 (by decide) ?_
    obtain ⟨rfl, rfl⟩ := gSome hf
    exact j_zret C hr (by decide) hw dX2_readsSignal_18
def dkwX2_readsSet_4 : List UInt8 := [180, 0, 52, 182, 0, 74, 28, 172]
abbrev dktX2_readsSet_4 : List UInt8 := dkwX2_readsSet_4 ++ []
def dkwX2_readsSet_3 : List UInt8 := [182, 0, 74, 42, 89, 180, 0, 45, 4, 96, 181, 0, 45, 42, 182, 0, 121, 61, 42, 27, 6, 42]
abbrev dktX2_readsSet_3 : List UInt8 := dkwX2_readsSet_3 ++ dktX2_readsSet_4
def dkwX2_readsSet_2 : List UInt8 := [159, 0, 5, 3, 172, 42, 27, 5, 42, 182, 0, 48, 16, 43, 160, 0, 7, 4, 167, 0, 4, 3]
abbrev dktX2_readsSet_2 : List UInt8 := dkwX2_readsSet_2 ++ dktX2_readsSet_3
def dkwX2_readsSet_1 : List UInt8 := [42, 180, 0, 52, 182, 0, 74, 42, 182, 0, 48, 16, 61, 159, 0, 14, 42, 182, 0, 48, 16, 43]
abbrev dktX2_readsSet_1 : List UInt8 := dkwX2_readsSet_1 ++ dktX2_readsSet_2
def dkwX2_readsSet_0 : List UInt8 := [42, 89, 180, 0, 45, 4, 96, 181, 0, 45, 42, 3, 6, 182, 0, 55, 154, 0, 5, 3, 172, 42, 27, 4]
abbrev dktX2_readsSet_0 : List UInt8 := dkwX2_readsSet_0 ++ dktX2_readsSet_1
theorem dksX2_readsSet_0 : cX2_readsSet.data.toList.drop 0 = dktX2_readsSet_0 := by decide +kernel
theorem dksX2_readsSet_1 : cX2_readsSet.data.toList.drop 24 = dktX2_readsSet_1 := dk_seg dksX2_readsSet_0 24 rfl rfl
theorem dksX2_readsSet_2 : cX2_readsSet.data.toList.drop 46 = dktX2_readsSet_2 := dk_seg dksX2_readsSet_1 22 rfl rfl
theorem dksX2_readsSet_3 : cX2_readsSet.data.toList.drop 68 = dktX2_readsSet_3 := dk_seg dksX2_readsSet_2 22 rfl rfl
theorem dksX2_readsSet_4 : cX2_readsSet.data.toList.drop 90 = dktX2_readsSet_4 := dk_seg dksX2_readsSet_3 22 rfl rfl
theorem dX2_readsSet_0 : decode cX2_readsSet 0 = .ok (.aload_n 0, 1) := dk_42 (dk_at dksX2_readsSet_0 0 rfl rfl)
theorem dX2_readsSet_1 : decode cX2_readsSet 1 = .ok (.dup, 1) := dk_89 (dk_at dksX2_readsSet_0 1 rfl rfl)
theorem dX2_readsSet_2 : decode cX2_readsSet 2 = .ok (.getfield 45, 3) := dk_180 0 45 (dk_at dksX2_readsSet_0 2 rfl rfl)
theorem dX2_readsSet_5 : decode cX2_readsSet 5 = .ok (.iconst 1, 1) := dk_4 (dk_at dksX2_readsSet_0 5 rfl rfl)
theorem dX2_readsSet_6 : decode cX2_readsSet 6 = .ok (.iadd, 1) := dk_96 (dk_at dksX2_readsSet_0 6 rfl rfl)
theorem dX2_readsSet_7 : decode cX2_readsSet 7 = .ok (.putfield 45, 3) := dk_181 0 45 (dk_at dksX2_readsSet_0 7 rfl rfl)
theorem dX2_readsSet_10 : decode cX2_readsSet 10 = .ok (.aload_n 0, 1) := dk_42 (dk_at dksX2_readsSet_0 10 rfl rfl)
theorem dX2_readsSet_11 : decode cX2_readsSet 11 = .ok (.iconst 0, 1) := dk_3 (dk_at dksX2_readsSet_0 11 rfl rfl)
theorem dX2_readsSet_12 : decode cX2_readsSet 12 = .ok (.iconst 3, 1) := dk_6 (dk_at dksX2_readsSet_0 12 rfl rfl)
theorem dX2_readsSet_13 : decode cX2_readsSet 13 = .ok (.invokevirtual 55, 3) := dk_182 0 55 (dk_at dksX2_readsSet_0 13 rfl rfl)
theorem dX2_readsSet_16 : decode cX2_readsSet 16 = .ok (.ifCond .ne 5, 3) := dk_154 0 5 (dk_at dksX2_readsSet_0 16 rfl rfl)
theorem dX2_readsSet_19 : decode cX2_readsSet 19 = .ok (.iconst 0, 1) := dk_3 (dk_at dksX2_readsSet_0 19 rfl rfl)
theorem dX2_readsSet_20 : decode cX2_readsSet 20 = .ok (.ireturn, 1) := dk_172 (dk_at dksX2_readsSet_0 20 rfl rfl)
theorem dX2_readsSet_21 : decode cX2_readsSet 21 = .ok (.aload_n 0, 1) := dk_42 (dk_at dksX2_readsSet_0 21 rfl rfl)
theorem dX2_readsSet_22 : decode cX2_readsSet 22 = .ok (.iload_n 1, 1) := dk_27 (dk_at dksX2_readsSet_0 22 rfl rfl)
theorem dX2_readsSet_23 : decode cX2_readsSet 23 = .ok (.iconst 1, 1) := dk_4 (dk_at dksX2_readsSet_0 23 rfl rfl)
theorem dX2_readsSet_24 : decode cX2_readsSet 24 = .ok (.aload_n 0, 1) := dk_42 (dk_at dksX2_readsSet_1 0 rfl rfl)
theorem dX2_readsSet_25 : decode cX2_readsSet 25 = .ok (.getfield 52, 3) := dk_180 0 52 (dk_at dksX2_readsSet_1 1 rfl rfl)
theorem dX2_readsSet_28 : decode cX2_readsSet 28 = .ok (.invokevirtual 74, 3) := dk_182 0 74 (dk_at dksX2_readsSet_1 4 rfl rfl)
theorem dX2_readsSet_31 : decode cX2_readsSet 31 = .ok (.aload_n 0, 1) := dk_42 (dk_at dksX2_readsSet_1 7 rfl rfl)
theorem dX2_readsSet_32 : decode cX2_readsSet 32 = .ok (.invokevirtual 48, 3) := dk_182 0 48 (dk_at dksX2_readsSet_1 8 rfl rfl)
theorem dX2_readsSet_35 : decode cX2_readsSet 35 = .ok (.bipush 61, 2) := dk_16 61 (dk_at dksX2_readsSet_1 11 rfl rfl)
theorem dX2_readsSet_37 : decode cX2_readsSet 37 = .ok (.if_icmp .eq 14, 3) := dk_159 0 14 (dk_at dksX2_readsSet_1 13 rfl rfl)
theorem dX2_readsSet_40 : decode cX2_readsSet 40 = .ok (.aload_n 0, 1) := dk_42 (dk_at dksX2_readsSet_1 16 rfl rfl)
theorem dX2_readsSet_41 : decode cX2_readsSet 41 = .ok (.invokevirtual 48, 3) := dk_182 0 48 (dk_at dksX2_readsSet_1 17 rfl rfl)
theorem dX2_readsSet_44 : decode cX2_readsSet 44 = .ok (.bipush 43, 2) := dk_16 43 (dk_at dksX2_readsSet_1 20 rfl rfl)
theorem dX2_readsSet_46 : decode cX2_readsSet 46 = .ok (.if_icmp .eq 5, 3) := dk_159 0 5 (dk_at dksX2_readsSet_2 0 rfl rfl)
theorem dX2_readsSet_49 : decode cX2_readsSet 49 = .ok (.iconst 0, 1) := dk_3 (dk_at dksX2_readsSet_2 3 rfl rfl)
theorem dX2_readsSet_50 : decode cX2_readsSet 50 = .ok (.ireturn, 1) := dk_172 (dk_at dksX2_readsSet_2 4 rfl rfl)
theorem dX2_readsSet_51 : decode cX2_readsSet 51 = .ok (.aload_n 0, 1) := dk_42 (dk_at dksX2_readsSet_2 5 rfl rfl)
theorem dX2_readsSet_52 : decode cX2_readsSet 52 = .ok (.iload_n 1, 1) := dk_27 (dk_at dksX2_readsSet_2 6 rfl rfl)
theorem dX2_readsSet_53 : decode cX2_readsSet 53 = .ok (.iconst 2, 1) := dk_5 (dk_at dksX2_readsSet_2 7 rfl rfl)
theorem dX2_readsSet_54 : decode cX2_readsSet 54 = .ok (.aload_n 0, 1) := dk_42 (dk_at dksX2_readsSet_2 8 rfl rfl)
theorem dX2_readsSet_55 : decode cX2_readsSet 55 = .ok (.invokevirtual 48, 3) := dk_182 0 48 (dk_at dksX2_readsSet_2 9 rfl rfl)
theorem dX2_readsSet_58 : decode cX2_readsSet 58 = .ok (.bipush 43, 2) := dk_16 43 (dk_at dksX2_readsSet_2 12 rfl rfl)
theorem dX2_readsSet_60 : decode cX2_readsSet 60 = .ok (.if_icmp .ne 7, 3) := dk_160 0 7 (dk_at dksX2_readsSet_2 14 rfl rfl)
theorem dX2_readsSet_63 : decode cX2_readsSet 63 = .ok (.iconst 1, 1) := dk_4 (dk_at dksX2_readsSet_2 17 rfl rfl)
theorem dX2_readsSet_64 : decode cX2_readsSet 64 = .ok (.goto 4, 3) := dk_167 0 4 (dk_at dksX2_readsSet_2 18 rfl rfl)
theorem dX2_readsSet_67 : decode cX2_readsSet 67 = .ok (.iconst 0, 1) := dk_3 (dk_at dksX2_readsSet_2 21 rfl rfl)
theorem dX2_readsSet_68 : decode cX2_readsSet 68 = .ok (.invokevirtual 74, 3) := dk_182 0 74 (dk_at dksX2_readsSet_3 0 rfl rfl)
theorem dX2_readsSet_71 : decode cX2_readsSet 71 = .ok (.aload_n 0, 1) := dk_42 (dk_at dksX2_readsSet_3 3 rfl rfl)
theorem dX2_readsSet_72 : decode cX2_readsSet 72 = .ok (.dup, 1) := dk_89 (dk_at dksX2_readsSet_3 4 rfl rfl)
theorem dX2_readsSet_73 : decode cX2_readsSet 73 = .ok (.getfield 45, 3) := dk_180 0 45 (dk_at dksX2_readsSet_3 5 rfl rfl)
theorem dX2_readsSet_76 : decode cX2_readsSet 76 = .ok (.iconst 1, 1) := dk_4 (dk_at dksX2_readsSet_3 8 rfl rfl)
theorem dX2_readsSet_77 : decode cX2_readsSet 77 = .ok (.iadd, 1) := dk_96 (dk_at dksX2_readsSet_3 9 rfl rfl)
theorem dX2_readsSet_78 : decode cX2_readsSet 78 = .ok (.putfield 45, 3) := dk_181 0 45 (dk_at dksX2_readsSet_3 10 rfl rfl)
theorem dX2_readsSet_81 : decode cX2_readsSet 81 = .ok (.aload_n 0, 1) := dk_42 (dk_at dksX2_readsSet_3 13 rfl rfl)
theorem dX2_readsSet_82 : decode cX2_readsSet 82 = .ok (.invokevirtual 121, 3) := dk_182 0 121 (dk_at dksX2_readsSet_3 14 rfl rfl)
theorem dX2_readsSet_85 : decode cX2_readsSet 85 = .ok (.istore_n 2, 1) := dk_61 (dk_at dksX2_readsSet_3 17 rfl rfl)
theorem dX2_readsSet_86 : decode cX2_readsSet 86 = .ok (.aload_n 0, 1) := dk_42 (dk_at dksX2_readsSet_3 18 rfl rfl)
theorem dX2_readsSet_87 : decode cX2_readsSet 87 = .ok (.iload_n 1, 1) := dk_27 (dk_at dksX2_readsSet_3 19 rfl rfl)
theorem dX2_readsSet_88 : decode cX2_readsSet 88 = .ok (.iconst 3, 1) := dk_6 (dk_at dksX2_readsSet_3 20 rfl rfl)
theorem dX2_readsSet_89 : decode cX2_readsSet 89 = .ok (.aload_n 0, 1) := dk_42 (dk_at dksX2_readsSet_3 21 rfl rfl)
theorem dX2_readsSet_90 : decode cX2_readsSet 90 = .ok (.getfield 52, 3) := dk_180 0 52 (dk_at dksX2_readsSet_4 0 rfl rfl)
theorem dX2_readsSet_93 : decode cX2_readsSet 93 = .ok (.invokevirtual 74, 3) := dk_182 0 74 (dk_at dksX2_readsSet_4 3 rfl rfl)
theorem dX2_readsSet_96 : decode cX2_readsSet 96 = .ok (.iload_n 2, 1) := dk_28 (dk_at dksX2_readsSet_4 6 rfl rfl)
theorem dX2_readsSet_97 : decode cX2_readsSet 97 = .ok (.ireturn, 1) := dk_172 (dk_at dksX2_readsSet_4 7 rfl rfl)
theorem hd_X2_takesSigned : (yX2_takesSigned.cls ≠ "java/lang/invoke/MethodHandle" ∧ yX2_takesSigned.cls ≠ "java/lang/invoke/VarHandle" ∧ (parseMethodDescriptor yX2_takesSigned.desc).map (fun d => d.parameters.length) = some 0) := ⟨by decide +kernel, by decide +kernel, by decide +kernel⟩
def t_X2_readsSet (p1 : Int32) (w0 : TS) : Option (Int32 × TS) := gBd (tPut w0 12 ((w0 0 12) + (nI 1))) fun w1 => gB2 (t_X2_takesDigit (nI 0) (nI 3) w1) fun x3 w2 => if x3 = 0 then some ((nI 0), w2) else gB2 (t_X2_put p1 (nI 1) (w2 0 18) w2) fun _ w5 => gB2 (t_X2_here  w5) fun x7 w6 => gBd (fun (x10 : Int32) (w9 : TS) => gB2 (t_X2_here  w9) fun x12 w11 => gBd (fun (x15 : Int32) (x16 : Int32) (x17 : Int32) (x18 : Int32) (w14 : TS) => gB2 (t_X2_put x16 x17 x18 w14) fun _ w19 => gBd (tPut w19 12 ((w19 0 12) + (nI 1))) fun w20 => gB2 (t_X2_takesSigned  w20) fun x22 w21 => gB2 (t_X2_put x15 (nI 3) (w21 0 18) w21) fun _ w23 => gB1 (gZ x22) fun _ => some (x22, w23)) fun k13 => if x12 = (nI 43) then k13 x10 x10 (nI 2) (nI 1) w11 else k13 x10 x10 (nI 2) (nI 0) w11) fun k8 => if x7 = (nI 61) then k8 p1 w6 else gB2 (t_X2_here  w6) fun x27 w26 => if x27 = (nI 43) then k8 p1 w26 else some ((nI 0), w26)
set_option maxHeartbeats 4000000 in
set_option maxRecDepth 100000 in
theorem kt_X2_readsSet {D : va_G} {dA : Nat → ClassId} {A : Nat → Prop} {K : Nat → Nat} {l : Launch} {wb : gw} {ad : Nat → Nat} (hinj : tInj ad) {h : Nat} (hh : 4 ≤ h) {p1 : Int32} {w0 ww : TS} {rr : Int32} (hf : t_X2_readsSet p1 w0 = some (rr, ww)) : gMet D dA A K l yX2_readsSet (ws_ yX2_readsSet cX2_readsSet 3 (some .boolean)) h [(ga (some (ad 0))), (gi p1)] (some (gi rr)) (twOf wb ad w0) (twOf wb ad ww) := by
  refine j_start (own := RX2) (by decide +kernel) rfl (Nat.le_of_ble_eq_true rfl) ?_
  intro p e R s m args below meth c C hr hin hw
  unfold t_X2_readsSet at hf
  show gJ D dA A K p l e R s m args below meth c (gEnd D dA A K below args s (twOf wb ad w0) (some (gi rr)) (twOf wb ad ww)) 3 0 [(0, (ga (some (ad 0)))), (1, (gi p1))] [] (twOf wb ad w0)
  refine j_aload_n C dX2_readsSet_0 rfl ?_
  refine j_dup C dX2_readsSet_1 ?_
  refine j_get (v := (gi (w0 0 12))) C fl_X2_45_2 dX2_readsSet_2 (tw_F hinj rfl) ?_
  refine j_iconst (v := (nI 1)) C dX2_readsSet_5 (by decide) ?_
  refine j_iadd C dX2_readsSet_6 ?_
  replace hf := gBd_x hf
  obtain ⟨w1, ew1, hf⟩ := hf
  refine j_put C fl_X2_45_2 tb_2 (tw_put hinj ew1 rfl (by decide)) fk_2_12 (fit_I ((w0 0 12) + (nI 1))) dX2_readsSet_7 ?_
  refine j_aload_n C dX2_readsSet_10 rfl ?_
  refine j_iconst (v := (nI 0)) C dX2_readsSet_11 (by decide) ?_
  refine j_iconst (v := (nI 3)) C dX2_readsSet_12 (by decide) ?_
  replace hf := gB2_e hf
  obtain ⟨x3, w2, ew2, hf⟩ := hf
  refine j_callV (As := [(gi (nI 0)), (gi (nI 3))]) (rest := []) (v := (some (gi x3))) C (by omega) (kt_X2_takesDigit hinj (by omega) ew2) (tw_cls hinj) rfl q1714 q1716 qs43 q93 q1717 ⟨rfl, hd_X2_takesDigit⟩ (by decide) rfl (Nat.le_of_ble_eq_true rfl) dX2_readsSet_13 ?_
  refine j_if_ne (tgt := 21) C dX2_readsSet_16 (by decide) (fun c4 => ?_) (fun c4 => ?_)
  · replace hf := gIf_f hf c4
    refine j_aload_n C dX2_readsSet_21 rfl ?_
    refine j_iload_n C dX2_readsSet_22 rfl ?_
    refine j_iconst (v := (nI 1)) C dX2_readsSet_23 (by decide) ?_
    refine j_aload_n C dX2_readsSet_24 rfl ?_
    refine j_get (v := (gi (w2 0 18))) C fl_X2_52_2 dX2_readsSet_25 (tw_F hinj rfl) ?_
    replace hf := gB2_e hf
    obtain ⟨_, w5, ew5, hf⟩ := hf
    refine j_callV (As := [(gi p1), (gi (nI 1)), (gi (w2 0 18))]) (rest := []) (v := none) C (by omega) (kt_X2_put hinj (by omega) ew5) (tw_cls hinj) rfl q1680 q1682 qs36 q93 q1683 ⟨rfl, hd_X2_put⟩ (by decide) rfl (Nat.le_of_ble_eq_true rfl) dX2_readsSet_28 ?_
    refine j_aload_n C dX2_readsSet_31 rfl ?_
    replace hf := gB2_e hf
    obtain ⟨x7, w6, ew6, hf⟩ := hf
    refine j_callV (As := []) (rest := []) (v := (some (gi x7))) C (by omega) (kt_X2_here hinj (by omega) ew6) (tw_cls hinj) rfl q1691 q1693 qs38 q93 q1694 ⟨rfl, hd_X2_here⟩ (by decide) rfl (Nat.le_of_ble_eq_true rfl) dX2_readsSet_32 ?_
    refine j_bipush (v := (nI 61)) C dX2_readsSet_35 (by decide) ?_
    replace hf := gBd_x hf
    obtain ⟨k8, ek8, hf⟩ := hf
    have jk8 : ∀ (x10 : Int32) (w9 : TS), k8 x10 w9 = some (rr, ww) → gJ D dA A K p l e R s m args below meth c (gEnd D dA A K below args s (twOf wb ad w0) (some (gi rr)) (twOf wb ad ww)) 3 51 [(0, (ga (some (ad 0)))), (1, (gi x10))] [] (twOf wb ad w9) := by
      intro x10 w9 hf
      rw [ek8] at hf
      dsimp only at hf
      refine j_aload_n C dX2_readsSet_51 rfl ?_
      refine j_iload_n C dX2_readsSet_52 rfl ?_
      refine j_iconst (v := (nI 2)) C dX2_readsSet_53 (by decide) ?_
      refine j_aload_n C dX2_readsSet_54 rfl ?_
      replace hf := gB2_e hf
      obtain ⟨x12, w11, ew11, hf⟩ := hf
      refine j_callV (As := []) (rest := [(gi (nI 2)), (gi x10), (ga (some (ad 0)))]) (v := (some (gi x12))) C (by omega) (kt_X2_here hinj (by omega) ew11) (tw_cls hinj) rfl q1691 q1693 qs38 q93 q1694 ⟨rfl, hd_X2_here⟩ (by decide) rfl (Nat.le_of_ble_eq_true rfl) dX2_readsSet_55 ?_
      refine j_bipush (v := (nI 43)) C dX2_readsSet_58 (by decide) ?_
      replace hf := gBd_x hf
      obtain ⟨k13, ek13, hf⟩ := hf
      have jk13 : ∀ (x15 : Int32) (x16 : Int32) (x17 : Int32) (x18 : Int32) (w14 : TS), k13 x15 x16 x17 x18 w14 = some (rr, ww) → gJ D dA A K p l e R s m args below meth c (gEnd D dA A K below args s (twOf wb ad w0) (some (gi rr)) (twOf wb ad ww)) 3 68 [(0, (ga (some (ad 0)))), (1, (gi x15))] [(gi x18), (gi x17), (gi x16), (ga (some (ad 0)))] (twOf wb ad w14) := by
        intro x15 x16 x17 x18 w14 hf
        rw [ek13] at hf
        dsimp only at hf
        replace hf := gB2_e hf
        obtain ⟨_, w19, ew19, hf⟩ := hf
        refine j_callV (As := [(gi x16), (gi x17), (gi x18)]) (rest := []) (v := none) C (by omega) (kt_X2_put hinj (by omega) ew19) (tw_cls hinj) rfl q1680 q1682 qs36 q93 q1683 ⟨rfl, hd_X2_put⟩ (by decide) rfl (Nat.le_of_ble_eq_true rfl) dX2_readsSet_68 ?_
        refine j_aload_n C dX2_readsSet_71 rfl ?_
        refine j_dup C dX2_readsSet_72 ?_
        refine j_get (v := (gi (w19 0 12))) C fl_X2_45_2 dX2_readsSet_73 (tw_F hinj rfl) ?_
        refine j_iconst (v := (nI 1)) C dX2_readsSet_76 (by decide) ?_
        refine j_iadd C dX2_readsSet_77 ?_
        replace hf := gBd_x hf
        obtain ⟨w20, ew20, hf⟩ := hf
        refine j_put C fl_X2_45_2 tb_2 (tw_put hinj ew20 rfl (by decide)) fk_2_12 (fit_I ((w19 0 12) + (nI 1))) dX2_readsSet_78 ?_
        refine j_aload_n C dX2_readsSet_81 rfl ?_
        replace hf := gB2_e hf
        obtain ⟨x22, w21, ew21, hf⟩ := hf
        refine j_callV (As := []) (rest := []) (v := (some (gi x22))) C (by omega) (kt_X2_takesSigned hinj (by omega) ew21) (tw_cls hinj) rfl q1734 q1736 qs48 q93 q1737 ⟨rfl, hd_X2_takesSigned⟩ (by decide) rfl (Nat.le_of_ble_eq_true rfl) dX2_readsSet_82 ?_
        refine j_istore_n (lv' := [(2, (gi x22)), (0, (ga (some (ad 0)))), (1, (gi x15))]) C dX2_readsSet_85 (by decide) rfl ?_
        refine j_aload_n C dX2_readsSet_86 rfl ?_
        refine j_iload_n C dX2_readsSet_87 rfl ?_
        refine j_iconst (v := (nI 3)) C dX2_readsSet_88 (by decide) ?_
        refine j_aload_n C dX2_readsSet_89 rfl ?_
        refine j_get (v := (gi (w21 0 18))) C fl_X2_52_2 dX2_readsSet_90 (tw_F hinj rfl) ?_
        replace hf := gB2_e hf
        obtain ⟨_, w23, ew23, hf⟩ := hf
        refine j_callV (As := [(gi x15), (gi (nI 3)), (gi (w21 0 18))]) (rest := []) (v := none) C (by omega) (kt_X2_put hinj (by omega) ew23) (tw_cls hinj) rfl q1680 q1682 qs36 q93 q1683 ⟨rfl, hd_X2_put⟩ (by decide) rfl (Nat.le_of_ble_eq_true rfl) dX2_readsSet_93 ?_
        refine j_iload_n C dX2_readsSet_96 rfl ?_
        replace hf := gB1_e hf
        obtain ⟨_, ez, hf⟩ := hf
        obtain ⟨rfl, rfl⟩ := gSome hf
        exact j_zret C hr (gZ_n (gZ_e ez)) hw dX2_readsSet_97
      clear ek13
      refine j_icmp_ne (tgt := 67) C dX2_readsSet_60 (by decide) (fun c24 => ?_) (fun c24 => ?_)
      · replace hf := gIf_f hf c24
        refine j_iconst (v := (nI 0)) C dX2_readsSet_67 (by decide) ?_
        exact jk13 _ _ _ _ _ hf
      · replace hf := gIf_t hf c24
        refine j_iconst (v := (nI 1)) C dX2_readsSet_63 (by decide) ?_
        refine j_goto (tgt := 68) C dX2_readsSet_64 (by decide) ?_
        exact jk13 _ _ _ _ _ hf
    clear ek8
    refine j_icmp_eq (tgt := 51) C dX2_readsSet_37 (by decide) (fun c25 => ?_) (fun c25 => ?_)
    · replace hf := gIf_t hf c25
      exact jk8 _ _ hf
    · replace hf := gIf_f hf c25
      refine j_aload_n C dX2_readsSet_40 rfl ?_
      replace hf := gB2_e hf
      obtain ⟨x27, w26, ew26, hf⟩ := hf
      refine j_callV (As := []) (rest := []) (v := (some (gi x27))) C (by omega) (kt_X2_here hinj (by omega) ew26) (tw_cls hinj) rfl q1691 q1693 qs38 q93 q1694 ⟨rfl, hd_X2_here⟩ (by decide) rfl (Nat.le_of_ble_eq_true rfl) dX2_readsSet_41 ?_
      refine j_bipush (v := (nI 43)) C dX2_readsSet_44 (by decide) ?_
      refine j_icmp_eq (tgt := 51) C dX2_readsSet_46 (by decide) (fun c28 => ?_) (fun c28 => ?_)
      · replace hf := gIf_t hf c28
        exact jk8 _ _ hf
      · replace hf := gIf_f hf c28
        refine j_iconst (v := (nI 0)) C dX2_readsSet_49 (by decide) ?_
        obtain ⟨rfl, rfl⟩ := gSome hf
        exact j_zret C hr (by decide) hw dX2_readsSet_50
  · replace hf := gIf_t hf c4
    refine j_iconst (v := (nI 0)) C dX2_readsSet_19 (by decide) ?_
    obtain ⟨rfl, rfl⟩ := gSome hf
    exact j_zret C hr (by decide) hw dX2_readsSet_20
def dkwX2_tasksIn_1 : List UInt8 := [160, 0, 7, 4, 167, 0, 4, 3, 96, 61, 132, 3, 1, 167, 255, 223, 28, 172]
abbrev dktX2_tasksIn_1 : List UInt8 := dkwX2_tasksIn_1 ++ []
def dkwX2_tasksIn_0 : List UInt8 := [3, 61, 3, 62, 29, 42, 180, 0, 16, 7, 27, 104, 46, 162, 0, 27, 28, 42, 27, 29, 182, 0, 144, 4]
abbrev dktX2_tasksIn_0 : List UInt8 := dkwX2_tasksIn_0 ++ dktX2_tasksIn_1
theorem dksX2_tasksIn_0 : cX2_tasksIn.data.toList.drop 0 = dktX2_tasksIn_0 := by decide +kernel
theorem dksX2_tasksIn_1 : cX2_tasksIn.data.toList.drop 24 = dktX2_tasksIn_1 := dk_seg dksX2_tasksIn_0 24 rfl rfl
theorem dX2_tasksIn_0 : decode cX2_tasksIn 0 = .ok (.iconst 0, 1) := dk_3 (dk_at dksX2_tasksIn_0 0 rfl rfl)
theorem dX2_tasksIn_1 : decode cX2_tasksIn 1 = .ok (.istore_n 2, 1) := dk_61 (dk_at dksX2_tasksIn_0 1 rfl rfl)
theorem dX2_tasksIn_2 : decode cX2_tasksIn 2 = .ok (.iconst 0, 1) := dk_3 (dk_at dksX2_tasksIn_0 2 rfl rfl)
theorem dX2_tasksIn_3 : decode cX2_tasksIn 3 = .ok (.istore_n 3, 1) := dk_62 (dk_at dksX2_tasksIn_0 3 rfl rfl)
theorem dX2_tasksIn_4 : decode cX2_tasksIn 4 = .ok (.iload_n 3, 1) := dk_29 (dk_at dksX2_tasksIn_0 4 rfl rfl)
theorem dX2_tasksIn_5 : decode cX2_tasksIn 5 = .ok (.aload_n 0, 1) := dk_42 (dk_at dksX2_tasksIn_0 5 rfl rfl)
theorem dX2_tasksIn_6 : decode cX2_tasksIn 6 = .ok (.getfield 16, 3) := dk_180 0 16 (dk_at dksX2_tasksIn_0 6 rfl rfl)
theorem dX2_tasksIn_9 : decode cX2_tasksIn 9 = .ok (.iconst 4, 1) := dk_7 (dk_at dksX2_tasksIn_0 9 rfl rfl)
theorem dX2_tasksIn_10 : decode cX2_tasksIn 10 = .ok (.iload_n 1, 1) := dk_27 (dk_at dksX2_tasksIn_0 10 rfl rfl)
theorem dX2_tasksIn_11 : decode cX2_tasksIn 11 = .ok (.imul, 1) := dk_104 (dk_at dksX2_tasksIn_0 11 rfl rfl)
theorem dX2_tasksIn_12 : decode cX2_tasksIn 12 = .ok (.iaload, 1) := dk_46 (dk_at dksX2_tasksIn_0 12 rfl rfl)
theorem dX2_tasksIn_13 : decode cX2_tasksIn 13 = .ok (.if_icmp .ge 27, 3) := dk_162 0 27 (dk_at dksX2_tasksIn_0 13 rfl rfl)
theorem dX2_tasksIn_16 : decode cX2_tasksIn 16 = .ok (.iload_n 2, 1) := dk_28 (dk_at dksX2_tasksIn_0 16 rfl rfl)
theorem dX2_tasksIn_17 : decode cX2_tasksIn 17 = .ok (.aload_n 0, 1) := dk_42 (dk_at dksX2_tasksIn_0 17 rfl rfl)
theorem dX2_tasksIn_18 : decode cX2_tasksIn 18 = .ok (.iload_n 1, 1) := dk_27 (dk_at dksX2_tasksIn_0 18 rfl rfl)
theorem dX2_tasksIn_19 : decode cX2_tasksIn 19 = .ok (.iload_n 3, 1) := dk_29 (dk_at dksX2_tasksIn_0 19 rfl rfl)
theorem dX2_tasksIn_20 : decode cX2_tasksIn 20 = .ok (.invokevirtual 144, 3) := dk_182 0 144 (dk_at dksX2_tasksIn_0 20 rfl rfl)
theorem dX2_tasksIn_23 : decode cX2_tasksIn 23 = .ok (.iconst 1, 1) := dk_4 (dk_at dksX2_tasksIn_0 23 rfl rfl)
theorem dX2_tasksIn_24 : decode cX2_tasksIn 24 = .ok (.if_icmp .ne 7, 3) := dk_160 0 7 (dk_at dksX2_tasksIn_1 0 rfl rfl)
theorem dX2_tasksIn_27 : decode cX2_tasksIn 27 = .ok (.iconst 1, 1) := dk_4 (dk_at dksX2_tasksIn_1 3 rfl rfl)
theorem dX2_tasksIn_28 : decode cX2_tasksIn 28 = .ok (.goto 4, 3) := dk_167 0 4 (dk_at dksX2_tasksIn_1 4 rfl rfl)
theorem dX2_tasksIn_31 : decode cX2_tasksIn 31 = .ok (.iconst 0, 1) := dk_3 (dk_at dksX2_tasksIn_1 7 rfl rfl)
theorem dX2_tasksIn_32 : decode cX2_tasksIn 32 = .ok (.iadd, 1) := dk_96 (dk_at dksX2_tasksIn_1 8 rfl rfl)
theorem dX2_tasksIn_33 : decode cX2_tasksIn 33 = .ok (.istore_n 2, 1) := dk_61 (dk_at dksX2_tasksIn_1 9 rfl rfl)
theorem dX2_tasksIn_34 : decode cX2_tasksIn 34 = .ok (.iinc 3 1, 3) := dk_132 3 1 (dk_at dksX2_tasksIn_1 10 rfl rfl)
theorem dX2_tasksIn_37 : decode cX2_tasksIn 37 = .ok (.goto (-33), 3) := dk_167 255 223 (dk_at dksX2_tasksIn_1 13 rfl rfl)
theorem dX2_tasksIn_40 : decode cX2_tasksIn 40 = .ok (.iload_n 2, 1) := dk_28 (dk_at dksX2_tasksIn_1 16 rfl rfl)
theorem dX2_tasksIn_41 : decode cX2_tasksIn 41 = .ok (.ireturn, 1) := dk_172 (dk_at dksX2_tasksIn_1 17 rfl rfl)
theorem hd_X2_kind : (yX2_kind.cls ≠ "java/lang/invoke/MethodHandle" ∧ yX2_kind.cls ≠ "java/lang/invoke/VarHandle" ∧ (parseMethodDescriptor yX2_kind.desc).map (fun d => d.parameters.length) = some 2) := ⟨by decide +kernel, by decide +kernel, by decide +kernel⟩
def t_X2_tasksIn (p1 : Int32) (w0 : TS) : Option (Int32 × TS) := gL3 (fun k5 (x2 : Int32) (x3 : Int32) (x4 : Int32) (w1 : TS) => gB1 (tLd w1 3 ((nI 4) * x2)) fun x6 => if x6 ≤ x4 then some (x3, w1) else gB2 (t_X2_kind x2 x4 w1) fun x9 w8 => gBd (fun (x12 : Int32) (x13 : Int32) (x14 : Int32) (x15 : Int32) (w11 : TS) => gBd (x14 + x15) fun x16 => gBd (x13 + (nI 1)) fun x17 => k5 x12 x16 x17 w11) fun k10 => if x9 = (nI 1) then k10 x2 x4 x3 (nI 1) w8 else k10 x2 x4 x3 (nI 0) w8) 20000 p1 (nI 0) (nI 0) w0
set_option maxHeartbeats 4000000 in
set_option maxRecDepth 100000 in
theorem kt_X2_tasksIn {D : va_G} {dA : Nat → ClassId} {A : Nat → Prop} {K : Nat → Nat} {l : Launch} {wb : gw} {ad : Nat → Nat} (hinj : tInj ad) {h : Nat} (hh : 2 ≤ h) {p1 : Int32} {w0 ww : TS} {rr : Int32} (hf : t_X2_tasksIn p1 w0 = some (rr, ww)) : gMet D dA A K l yX2_tasksIn (ws_ yX2_tasksIn cX2_tasksIn 4 (some .int)) h [(ga (some (ad 0))), (gi p1)] (some (gi rr)) (twOf wb ad w0) (twOf wb ad ww) := by
  refine j_start (own := RX2) (by decide +kernel) rfl (Nat.le_of_ble_eq_true rfl) ?_
  intro p e R s m args below meth c C hr hin hw
  unfold t_X2_tasksIn at hf
  show gJ D dA A K p l e R s m args below meth c (gEnd D dA A K below args s (twOf wb ad w0) (some (gi rr)) (twOf wb ad ww)) 4 0 [(0, (ga (some (ad 0)))), (1, (gi p1))] [] (twOf wb ad w0)
  refine j_iconst (v := (nI 0)) C dX2_tasksIn_0 (by decide) ?_
  refine j_istore_n (lv' := [(2, (gi (nI 0))), (0, (ga (some (ad 0)))), (1, (gi p1))]) C dX2_tasksIn_1 (by decide) rfl ?_
  refine j_iconst (v := (nI 0)) C dX2_tasksIn_2 (by decide) ?_
  refine j_istore_n (lv' := [(3, (gi (nI 0))), (2, (gi (nI 0))), (0, (ga (some (ad 0)))), (1, (gi p1))]) C dX2_tasksIn_3 (by decide) rfl ?_
  refine j_sub (lv' := [(0, (ga (some (ad 0)))), (1, (gi p1)), (2, (gi (nI 0))), (3, (gi (nI 0)))]) (gL_cons rfl (gL_cons rfl (gL_cons rfl (gL_cons rfl (gL_nil))))) ?_
  refine gL3_e (fun (x2 : Int32) (x3 : Int32) (x4 : Int32) (w1 : TS) => gJ D dA A K p l e R s m args below meth c (gEnd D dA A K below args s (twOf wb ad w0) (some (gi rr)) (twOf wb ad ww)) 4 4 [(0, (ga (some (ad 0)))), (1, (gi x2)), (2, (gi x3)), (3, (gi x4))] [] (twOf wb ad w1)) ?_ _ _ _ _ _ hf
  intro k5 jk5 x2 x3 x4 w1 hf
  refine j_iload_n C dX2_tasksIn_4 rfl ?_
  refine j_aload_n C dX2_tasksIn_5 rfl ?_
  refine j_get (v := (ga (some (ad 3)))) C fl_X2_16_2 dX2_tasksIn_6 (tw_F hinj rfl) ?_
  refine j_iconst (v := (nI 4)) C dX2_tasksIn_9 (by decide) ?_
  refine j_iload_n C dX2_tasksIn_10 rfl ?_
  refine j_imul C dX2_tasksIn_11 ?_
  replace hf := gB1_e hf
  obtain ⟨x6, ex6, hf⟩ := hf
  refine j_iald C (tw_ld hinj ex6) dX2_tasksIn_12 ?_
  refine j_icmp_ge (tgt := 40) C dX2_tasksIn_13 (by decide) (fun c7 => ?_) (fun c7 => ?_)
  · replace hf := gIf_t hf c7
    refine j_iload_n C dX2_tasksIn_40 rfl ?_
    obtain ⟨rfl, rfl⟩ := gSome hf
    exact j_iret C hr hw dX2_tasksIn_41
  · replace hf := gIf_f hf c7
    refine j_iload_n C dX2_tasksIn_16 rfl ?_
    refine j_aload_n C dX2_tasksIn_17 rfl ?_
    refine j_iload_n C dX2_tasksIn_18 rfl ?_
    refine j_iload_n C dX2_tasksIn_19 rfl ?_
    replace hf := gB2_e hf
    obtain ⟨x9, w8, ew8, hf⟩ := hf
    refine j_callV (As := [(gi x2), (gi x4)]) (rest := [(gi x3)]) (v := (some (gi x9))) C (by omega) (kt_X2_kind hinj (by omega) ew8) (tw_cls hinj) rfl q1763 q1765 qs53 q93 q1766 ⟨rfl, hd_X2_kind⟩ (by decide) rfl (Nat.le_of_ble_eq_true rfl) dX2_tasksIn_20 ?_
    refine j_iconst (v := (nI 1)) C dX2_tasksIn_23 (by decide) ?_
    replace hf := gBd_x hf
    obtain ⟨k10, ek10, hf⟩ := hf
    have jk10 : ∀ (x12 : Int32) (x13 : Int32) (x14 : Int32) (x15 : Int32) (w11 : TS), k10 x12 x13 x14 x15 w11 = some (rr, ww) → gJ D dA A K p l e R s m args below meth c (gEnd D dA A K below args s (twOf wb ad w0) (some (gi rr)) (twOf wb ad ww)) 4 32 [(0, (ga (some (ad 0)))), (1, (gi x12)), (3, (gi x13))] [(gi x15), (gi x14)] (twOf wb ad w11) := by
      intro x12 x13 x14 x15 w11 hf
      rw [ek10] at hf
      dsimp only at hf
      refine j_iadd C dX2_tasksIn_32 ?_
      replace hf := gBd_x hf
      obtain ⟨x16, ex16, hf⟩ := hf
      refine j_nm ex16 ?_
      refine j_istore_n (lv' := [(2, (gi x16)), (0, (ga (some (ad 0)))), (1, (gi x12)), (3, (gi x13))]) C dX2_tasksIn_33 (by decide) rfl ?_
      replace hf := gBd_x hf
      obtain ⟨x17, ex17, hf⟩ := hf
      refine j_iinc (v := x17) (lv' := [(3, (gi x17)), (2, (gi x16)), (0, (ga (some (ad 0)))), (1, (gi x12))]) C dX2_tasksIn_34 rfl (by rw [ex17]; rfl) (by decide) rfl ?_
      refine j_goto (tgt := 4) C dX2_tasksIn_37 (by decide) ?_
      refine j_sub (lv' := [(0, (ga (some (ad 0)))), (1, (gi x12)), (2, (gi x16)), (3, (gi x17))]) (gL_cons rfl (gL_cons rfl (gL_cons rfl (gL_cons rfl (gL_nil))))) ?_
      exact jk5 _ _ _ _ hf
    clear ek10
    refine j_icmp_ne (tgt := 31) C dX2_tasksIn_24 (by decide) (fun c18 => ?_) (fun c18 => ?_)
    · replace hf := gIf_f hf c18
      refine j_iconst (v := (nI 0)) C dX2_tasksIn_31 (by decide) ?_
      refine j_sub (lv' := [(0, (ga (some (ad 0)))), (1, (gi x2)), (3, (gi x4))]) (gL_cons rfl (gL_cons rfl (gL_cons rfl (gL_nil)))) ?_
      exact jk10 _ _ _ _ _ hf
    · replace hf := gIf_t hf c18
      refine j_iconst (v := (nI 1)) C dX2_tasksIn_27 (by decide) ?_
      refine j_goto (tgt := 32) C dX2_tasksIn_28 (by decide) ?_
      refine j_sub (lv' := [(0, (ga (some (ad 0)))), (1, (gi x2)), (3, (gi x4))]) (gL_cons rfl (gL_cons rfl (gL_cons rfl (gL_nil)))) ?_
      exact jk10 _ _ _ _ _ hf
def dkwX2_duration_1 : List UInt8 := [180, 0, 22, 4, 27, 96, 46, 62, 42, 180, 0, 22, 4, 27, 96, 28, 79, 29, 172]
abbrev dktX2_duration_1 : List UInt8 := dkwX2_duration_1 ++ []
def dkwX2_duration_0 : List UInt8 := [27, 184, 0, 160, 154, 0, 5, 2, 172, 28, 3, 16, 99, 184, 0, 38, 154, 0, 6, 16, 254, 172, 42]
abbrev dktX2_duration_0 : List UInt8 := dkwX2_duration_0 ++ dktX2_duration_1
theorem dksX2_duration_0 : cX2_duration.data.toList.drop 0 = dktX2_duration_0 := by decide +kernel
theorem dksX2_duration_1 : cX2_duration.data.toList.drop 23 = dktX2_duration_1 := dk_seg dksX2_duration_0 23 rfl rfl
theorem dX2_duration_0 : decode cX2_duration 0 = .ok (.iload_n 1, 1) := dk_27 (dk_at dksX2_duration_0 0 rfl rfl)
theorem dX2_duration_1 : decode cX2_duration 1 = .ok (.invokestatic 160, 3) := dk_184 0 160 (dk_at dksX2_duration_0 1 rfl rfl)
theorem dX2_duration_4 : decode cX2_duration 4 = .ok (.ifCond .ne 5, 3) := dk_154 0 5 (dk_at dksX2_duration_0 4 rfl rfl)
theorem dX2_duration_7 : decode cX2_duration 7 = .ok (.iconst (-1), 1) := dk_2 (dk_at dksX2_duration_0 7 rfl rfl)
theorem dX2_duration_8 : decode cX2_duration 8 = .ok (.ireturn, 1) := dk_172 (dk_at dksX2_duration_0 8 rfl rfl)
theorem dX2_duration_9 : decode cX2_duration 9 = .ok (.iload_n 2, 1) := dk_28 (dk_at dksX2_duration_0 9 rfl rfl)
theorem dX2_duration_10 : decode cX2_duration 10 = .ok (.iconst 0, 1) := dk_3 (dk_at dksX2_duration_0 10 rfl rfl)
theorem dX2_duration_11 : decode cX2_duration 11 = .ok (.bipush 99, 2) := dk_16 99 (dk_at dksX2_duration_0 11 rfl rfl)
theorem dX2_duration_13 : decode cX2_duration 13 = .ok (.invokestatic 38, 3) := dk_184 0 38 (dk_at dksX2_duration_0 13 rfl rfl)
theorem dX2_duration_16 : decode cX2_duration 16 = .ok (.ifCond .ne 6, 3) := dk_154 0 6 (dk_at dksX2_duration_0 16 rfl rfl)
theorem dX2_duration_19 : decode cX2_duration 19 = .ok (.bipush (-2), 2) := dk_16 254 (dk_at dksX2_duration_0 19 rfl rfl)
theorem dX2_duration_21 : decode cX2_duration 21 = .ok (.ireturn, 1) := dk_172 (dk_at dksX2_duration_0 21 rfl rfl)
theorem dX2_duration_22 : decode cX2_duration 22 = .ok (.aload_n 0, 1) := dk_42 (dk_at dksX2_duration_0 22 rfl rfl)
theorem dX2_duration_23 : decode cX2_duration 23 = .ok (.getfield 22, 3) := dk_180 0 22 (dk_at dksX2_duration_1 0 rfl rfl)
theorem dX2_duration_26 : decode cX2_duration 26 = .ok (.iconst 1, 1) := dk_4 (dk_at dksX2_duration_1 3 rfl rfl)
theorem dX2_duration_27 : decode cX2_duration 27 = .ok (.iload_n 1, 1) := dk_27 (dk_at dksX2_duration_1 4 rfl rfl)
theorem dX2_duration_28 : decode cX2_duration 28 = .ok (.iadd, 1) := dk_96 (dk_at dksX2_duration_1 5 rfl rfl)
theorem dX2_duration_29 : decode cX2_duration 29 = .ok (.iaload, 1) := dk_46 (dk_at dksX2_duration_1 6 rfl rfl)
theorem dX2_duration_30 : decode cX2_duration 30 = .ok (.istore_n 3, 1) := dk_62 (dk_at dksX2_duration_1 7 rfl rfl)
theorem dX2_duration_31 : decode cX2_duration 31 = .ok (.aload_n 0, 1) := dk_42 (dk_at dksX2_duration_1 8 rfl rfl)
theorem dX2_duration_32 : decode cX2_duration 32 = .ok (.getfield 22, 3) := dk_180 0 22 (dk_at dksX2_duration_1 9 rfl rfl)
theorem dX2_duration_35 : decode cX2_duration 35 = .ok (.iconst 1, 1) := dk_4 (dk_at dksX2_duration_1 12 rfl rfl)
theorem dX2_duration_36 : decode cX2_duration 36 = .ok (.iload_n 1, 1) := dk_27 (dk_at dksX2_duration_1 13 rfl rfl)
theorem dX2_duration_37 : decode cX2_duration 37 = .ok (.iadd, 1) := dk_96 (dk_at dksX2_duration_1 14 rfl rfl)
theorem dX2_duration_38 : decode cX2_duration 38 = .ok (.iload_n 2, 1) := dk_28 (dk_at dksX2_duration_1 15 rfl rfl)
theorem dX2_duration_39 : decode cX2_duration 39 = .ok (.iastore, 1) := dk_79 (dk_at dksX2_duration_1 16 rfl rfl)
theorem dX2_duration_40 : decode cX2_duration 40 = .ok (.iload_n 3, 1) := dk_29 (dk_at dksX2_duration_1 17 rfl rfl)
theorem dX2_duration_41 : decode cX2_duration 41 = .ok (.ireturn, 1) := dk_172 (dk_at dksX2_duration_1 18 rfl rfl)
def t_X2_duration (p1 : Int32) (p2 : Int32) (w0 : TS) : Option (Int32 × TS) := gB2 (t_X2_isCode p1 w0) fun x2 w1 => if x2 = 0 then some ((-1), w1) else gB2 (t_X2_isIn p2 (nI 0) (nI 99) w1) fun x5 w4 => if x5 = 0 then some ((-2), w4) else gB1 (tLd w4 5 ((nI 1) + p1)) fun x7 => gB1 (tSt w4 5 ((nI 1) + p1) p2) fun w8 => some (x7, w8)
set_option maxHeartbeats 4000000 in
set_option maxRecDepth 100000 in
theorem kt_X2_duration {D : va_G} {dA : Nat → ClassId} {A : Nat → Prop} {K : Nat → Nat} {l : Launch} {wb : gw} {ad : Nat → Nat} (hinj : tInj ad) {h : Nat} (hh : 2 ≤ h) {p1 : Int32} {p2 : Int32} {w0 ww : TS} {rr : Int32} (hf : t_X2_duration p1 p2 w0 = some (rr, ww)) : gMet D dA A K l yX2_duration (ws_ yX2_duration cX2_duration 4 (some .int)) h [(ga (some (ad 0))), (gi p1), (gi p2)] (some (gi rr)) (twOf wb ad w0) (twOf wb ad ww) := by
  refine j_start (own := RX2) (by decide +kernel) rfl (Nat.le_of_ble_eq_true rfl) ?_
  intro p e R s m args below meth c C hr hin hw
  unfold t_X2_duration at hf
  show gJ D dA A K p l e R s m args below meth c (gEnd D dA A K below args s (twOf wb ad w0) (some (gi rr)) (twOf wb ad ww)) 4 0 [(0, (ga (some (ad 0)))), (1, (gi p1)), (2, (gi p2))] [] (twOf wb ad w0)
  refine j_iload_n C dX2_duration_0 rfl ?_
  replace hf := gB2_e hf
  obtain ⟨x2, w1, ew1, hf⟩ := hf
  refine j_callS (As := [(gi p1)]) (rest := []) (v := (some (gi x2))) C (by omega) (kt_X2_isCode hinj (by omega) ew1) q1783 q1784 q93 q1785 hd_X2_isCode (by decide) rfl (Nat.le_of_ble_eq_true rfl) dX2_duration_1 ?_
  refine j_if_ne (tgt := 9) C dX2_duration_4 (by decide) (fun c3 => ?_) (fun c3 => ?_)
  · replace hf := gIf_f hf c3
    refine j_iload_n C dX2_duration_9 rfl ?_
    refine j_iconst (v := (nI 0)) C dX2_duration_10 (by decide) ?_
    refine j_bipush (v := (nI 99)) C dX2_duration_11 (by decide) ?_
    replace hf := gB2_e hf
    obtain ⟨x5, w4, ew4, hf⟩ := hf
    refine j_callS (As := [(gi p2), (gi (nI 0)), (gi (nI 99))]) (rest := []) (v := (some (gi x5))) C (by omega) (kt_X2_isIn hinj (by omega) ew4) q1662 q1663 q93 q1664 hd_X2_isIn (by decide) rfl (Nat.le_of_ble_eq_true rfl) dX2_duration_13 ?_
    refine j_if_ne (tgt := 22) C dX2_duration_16 (by decide) (fun c6 => ?_) (fun c6 => ?_)
    · replace hf := gIf_f hf c6
      refine j_aload_n C dX2_duration_22 rfl ?_
      refine j_get (v := (ga (some (ad 5)))) C fl_X2_22_2 dX2_duration_23 (tw_F hinj rfl) ?_
      refine j_iconst (v := (nI 1)) C dX2_duration_26 (by decide) ?_
      refine j_iload_n C dX2_duration_27 rfl ?_
      refine j_iadd C dX2_duration_28 ?_
      replace hf := gB1_e hf
      obtain ⟨x7, ex7, hf⟩ := hf
      refine j_iald C (tw_ld hinj ex7) dX2_duration_29 ?_
      refine j_istore_n (lv' := [(3, (gi x7)), (0, (ga (some (ad 0)))), (1, (gi p1)), (2, (gi p2))]) C dX2_duration_30 (by decide) rfl ?_
      refine j_aload_n C dX2_duration_31 rfl ?_
      refine j_get (v := (ga (some (ad 5)))) C fl_X2_22_2 dX2_duration_32 (tw_F hinj rfl) ?_
      refine j_iconst (v := (nI 1)) C dX2_duration_35 (by decide) ?_
      refine j_iload_n C dX2_duration_36 rfl ?_
      refine j_iadd C dX2_duration_37 ?_
      refine j_iload_n C dX2_duration_38 rfl ?_
      replace hf := gB1_e hf
      obtain ⟨w8, ew8, hf⟩ := hf
      refine j_iast C (tw_st hinj ew8) dX2_duration_39 ?_
      refine j_iload_n C dX2_duration_40 rfl ?_
      obtain ⟨rfl, rfl⟩ := gSome hf
      exact j_iret C hr hw dX2_duration_41
    · replace hf := gIf_t hf c6
      refine j_bipush (v := (-2)) C dX2_duration_19 (by decide) ?_
      obtain ⟨rfl, rfl⟩ := gSome hf
      exact j_iret C hr hw dX2_duration_21
  · replace hf := gIf_t hf c3
    refine j_iconst (v := (-1)) C dX2_duration_7 (by decide) ?_
    obtain ⟨rfl, rfl⟩ := gSome hf
    exact j_iret C hr hw dX2_duration_8
def dkwX2_instances_1 : List UInt8 := [132, 2, 1, 167, 255, 234, 27, 172]
abbrev dktX2_instances_1 : List UInt8 := dkwX2_instances_1 ++ []
def dkwX2_instances_0 : List UInt8 := [3, 60, 3, 61, 28, 16, 6, 162, 0, 22, 27, 42, 180, 0, 22, 28, 3, 184, 0, 163, 46, 96, 60]
abbrev dktX2_instances_0 : List UInt8 := dkwX2_instances_0 ++ dktX2_instances_1
theorem dksX2_instances_0 : cX2_instances.data.toList.drop 0 = dktX2_instances_0 := by decide +kernel
theorem dksX2_instances_1 : cX2_instances.data.toList.drop 23 = dktX2_instances_1 := dk_seg dksX2_instances_0 23 rfl rfl
theorem dX2_instances_0 : decode cX2_instances 0 = .ok (.iconst 0, 1) := dk_3 (dk_at dksX2_instances_0 0 rfl rfl)
theorem dX2_instances_1 : decode cX2_instances 1 = .ok (.istore_n 1, 1) := dk_60 (dk_at dksX2_instances_0 1 rfl rfl)
theorem dX2_instances_2 : decode cX2_instances 2 = .ok (.iconst 0, 1) := dk_3 (dk_at dksX2_instances_0 2 rfl rfl)
theorem dX2_instances_3 : decode cX2_instances 3 = .ok (.istore_n 2, 1) := dk_61 (dk_at dksX2_instances_0 3 rfl rfl)
theorem dX2_instances_4 : decode cX2_instances 4 = .ok (.iload_n 2, 1) := dk_28 (dk_at dksX2_instances_0 4 rfl rfl)
theorem dX2_instances_5 : decode cX2_instances 5 = .ok (.bipush 6, 2) := dk_16 6 (dk_at dksX2_instances_0 5 rfl rfl)
theorem dX2_instances_7 : decode cX2_instances 7 = .ok (.if_icmp .ge 22, 3) := dk_162 0 22 (dk_at dksX2_instances_0 7 rfl rfl)
theorem dX2_instances_10 : decode cX2_instances 10 = .ok (.iload_n 1, 1) := dk_27 (dk_at dksX2_instances_0 10 rfl rfl)
theorem dX2_instances_11 : decode cX2_instances 11 = .ok (.aload_n 0, 1) := dk_42 (dk_at dksX2_instances_0 11 rfl rfl)
theorem dX2_instances_12 : decode cX2_instances 12 = .ok (.getfield 22, 3) := dk_180 0 22 (dk_at dksX2_instances_0 12 rfl rfl)
theorem dX2_instances_15 : decode cX2_instances 15 = .ok (.iload_n 2, 1) := dk_28 (dk_at dksX2_instances_0 15 rfl rfl)
theorem dX2_instances_16 : decode cX2_instances 16 = .ok (.iconst 0, 1) := dk_3 (dk_at dksX2_instances_0 16 rfl rfl)
theorem dX2_instances_17 : decode cX2_instances 17 = .ok (.invokestatic 163, 3) := dk_184 0 163 (dk_at dksX2_instances_0 17 rfl rfl)
theorem dX2_instances_20 : decode cX2_instances 20 = .ok (.iaload, 1) := dk_46 (dk_at dksX2_instances_0 20 rfl rfl)
theorem dX2_instances_21 : decode cX2_instances 21 = .ok (.iadd, 1) := dk_96 (dk_at dksX2_instances_0 21 rfl rfl)
theorem dX2_instances_22 : decode cX2_instances 22 = .ok (.istore_n 1, 1) := dk_60 (dk_at dksX2_instances_0 22 rfl rfl)
theorem dX2_instances_23 : decode cX2_instances 23 = .ok (.iinc 2 1, 3) := dk_132 2 1 (dk_at dksX2_instances_1 0 rfl rfl)
theorem dX2_instances_26 : decode cX2_instances 26 = .ok (.goto (-22), 3) := dk_167 255 234 (dk_at dksX2_instances_1 3 rfl rfl)
theorem dX2_instances_29 : decode cX2_instances 29 = .ok (.iload_n 1, 1) := dk_27 (dk_at dksX2_instances_1 6 rfl rfl)
theorem dX2_instances_30 : decode cX2_instances 30 = .ok (.ireturn, 1) := dk_172 (dk_at dksX2_instances_1 7 rfl rfl)
def t_X2_instances  (w0 : TS) : Option (Int32 × TS) := gL2 (fun k4 (x2 : Int32) (x3 : Int32) (w1 : TS) => if (nI 6) ≤ x3 then some (x2, w1) else gB2 (t_X2_of x3 (nI 0) w1) fun x7 w6 => gB1 (tLd w6 5 x7) fun x8 => gBd (x2 + x8) fun x9 => gBd (x3 + (nI 1)) fun x10 => k4 x9 x10 w6) 20000 (nI 0) (nI 0) w0
set_option maxHeartbeats 4000000 in
set_option maxRecDepth 100000 in
theorem kt_X2_instances {D : va_G} {dA : Nat → ClassId} {A : Nat → Prop} {K : Nat → Nat} {l : Launch} {wb : gw} {ad : Nat → Nat} (hinj : tInj ad) {h : Nat} (hh : 1 ≤ h)  {w0 ww : TS} {rr : Int32} (hf : t_X2_instances  w0 = some (rr, ww)) : gMet D dA A K l yX2_instances (ws_ yX2_instances cX2_instances 3 (some .int)) h [(ga (some (ad 0)))] (some (gi rr)) (twOf wb ad w0) (twOf wb ad ww) := by
  refine j_start (own := RX2) (by decide +kernel) rfl (Nat.le_of_ble_eq_true rfl) ?_
  intro p e R s m args below meth c C hr hin hw
  unfold t_X2_instances at hf
  show gJ D dA A K p l e R s m args below meth c (gEnd D dA A K below args s (twOf wb ad w0) (some (gi rr)) (twOf wb ad ww)) 3 0 [(0, (ga (some (ad 0))))] [] (twOf wb ad w0)
  refine j_iconst (v := (nI 0)) C dX2_instances_0 (by decide) ?_
  refine j_istore_n (lv' := [(1, (gi (nI 0))), (0, (ga (some (ad 0))))]) C dX2_instances_1 (by decide) rfl ?_
  refine j_iconst (v := (nI 0)) C dX2_instances_2 (by decide) ?_
  refine j_istore_n (lv' := [(2, (gi (nI 0))), (1, (gi (nI 0))), (0, (ga (some (ad 0))))]) C dX2_instances_3 (by decide) rfl ?_
  refine j_sub (lv' := [(0, (ga (some (ad 0)))), (1, (gi (nI 0))), (2, (gi (nI 0)))]) (gL_cons rfl (gL_cons rfl (gL_cons rfl (gL_nil)))) ?_
  refine gL2_e (fun (x2 : Int32) (x3 : Int32) (w1 : TS) => gJ D dA A K p l e R s m args below meth c (gEnd D dA A K below args s (twOf wb ad w0) (some (gi rr)) (twOf wb ad ww)) 3 4 [(0, (ga (some (ad 0)))), (1, (gi x2)), (2, (gi x3))] [] (twOf wb ad w1)) ?_ _ _ _ _ hf
  intro k4 jk4 x2 x3 w1 hf
  refine j_iload_n C dX2_instances_4 rfl ?_
  refine j_bipush (v := (nI 6)) C dX2_instances_5 (by decide) ?_
  refine j_icmp_ge (tgt := 29) C dX2_instances_7 (by decide) (fun c5 => ?_) (fun c5 => ?_)
  · replace hf := gIf_t hf c5
    refine j_iload_n C dX2_instances_29 rfl ?_
    obtain ⟨rfl, rfl⟩ := gSome hf
    exact j_iret C hr hw dX2_instances_30
  · replace hf := gIf_f hf c5
    refine j_iload_n C dX2_instances_10 rfl ?_
    refine j_aload_n C dX2_instances_11 rfl ?_
    refine j_get (v := (ga (some (ad 5)))) C fl_X2_22_2 dX2_instances_12 (tw_F hinj rfl) ?_
    refine j_iload_n C dX2_instances_15 rfl ?_
    refine j_iconst (v := (nI 0)) C dX2_instances_16 (by decide) ?_
    replace hf := gB2_e hf
    obtain ⟨x7, w6, ew6, hf⟩ := hf
    refine j_callS (As := [(gi x3), (gi (nI 0))]) (rest := [(ga (some (ad 5))), (gi x2)]) (v := (some (gi x7))) C (by omega) (kt_X2_of hinj (by omega) ew6) q1798 q1799 q93 q1800 hd_X2_of (by decide) rfl (Nat.le_of_ble_eq_true rfl) dX2_instances_17 ?_
    replace hf := gB1_e hf
    obtain ⟨x8, ex8, hf⟩ := hf
    refine j_iald C (tw_ld hinj ex8) dX2_instances_20 ?_
    refine j_iadd C dX2_instances_21 ?_
    replace hf := gBd_x hf
    obtain ⟨x9, ex9, hf⟩ := hf
    refine j_nm ex9 ?_
    refine j_istore_n (lv' := [(1, (gi x9)), (0, (ga (some (ad 0)))), (2, (gi x3))]) C dX2_instances_22 (by decide) rfl ?_
    replace hf := gBd_x hf
    obtain ⟨x10, ex10, hf⟩ := hf
    refine j_iinc (v := x10) (lv' := [(2, (gi x10)), (1, (gi x9)), (0, (ga (some (ad 0))))]) C dX2_instances_23 rfl (by rw [ex10]; rfl) (by decide) rfl ?_
    refine j_goto (tgt := 4) C dX2_instances_26 (by decide) ?_
    refine j_sub (lv' := [(0, (ga (some (ad 0)))), (1, (gi x9)), (2, (gi x10))]) (gL_cons rfl (gL_cons rfl (gL_cons rfl (gL_nil)))) ?_
    exact jk4 _ _ _ hf
def dkwX2_nodePart_0 : List UInt8 := [42, 180, 0, 9, 42, 27, 182, 0, 166, 28, 29, 184, 0, 67, 46, 172]
abbrev dktX2_nodePart_0 : List UInt8 := dkwX2_nodePart_0 ++ []
theorem dksX2_nodePart_0 : cX2_nodePart.data.toList.drop 0 = dktX2_nodePart_0 := by decide +kernel
theorem dX2_nodePart_0 : decode cX2_nodePart 0 = .ok (.aload_n 0, 1) := dk_42 (dk_at dksX2_nodePart_0 0 rfl rfl)
theorem dX2_nodePart_1 : decode cX2_nodePart 1 = .ok (.getfield 9, 3) := dk_180 0 9 (dk_at dksX2_nodePart_0 1 rfl rfl)
theorem dX2_nodePart_4 : decode cX2_nodePart 4 = .ok (.aload_n 0, 1) := dk_42 (dk_at dksX2_nodePart_0 4 rfl rfl)
theorem dX2_nodePart_5 : decode cX2_nodePart 5 = .ok (.iload_n 1, 1) := dk_27 (dk_at dksX2_nodePart_0 5 rfl rfl)
theorem dX2_nodePart_6 : decode cX2_nodePart 6 = .ok (.invokevirtual 166, 3) := dk_182 0 166 (dk_at dksX2_nodePart_0 6 rfl rfl)
theorem dX2_nodePart_9 : decode cX2_nodePart 9 = .ok (.iload_n 2, 1) := dk_28 (dk_at dksX2_nodePart_0 9 rfl rfl)
theorem dX2_nodePart_10 : decode cX2_nodePart 10 = .ok (.iload_n 3, 1) := dk_29 (dk_at dksX2_nodePart_0 10 rfl rfl)
theorem dX2_nodePart_11 : decode cX2_nodePart 11 = .ok (.invokestatic 67, 3) := dk_184 0 67 (dk_at dksX2_nodePart_0 11 rfl rfl)
theorem dX2_nodePart_14 : decode cX2_nodePart 14 = .ok (.iaload, 1) := dk_46 (dk_at dksX2_nodePart_0 14 rfl rfl)
theorem dX2_nodePart_15 : decode cX2_nodePart 15 = .ok (.ireturn, 1) := dk_172 (dk_at dksX2_nodePart_0 15 rfl rfl)
theorem hd_X2_versionOf : (yX2_versionOf.cls ≠ "java/lang/invoke/MethodHandle" ∧ yX2_versionOf.cls ≠ "java/lang/invoke/VarHandle" ∧ (parseMethodDescriptor yX2_versionOf.desc).map (fun d => d.parameters.length) = some 1) := ⟨by decide +kernel, by decide +kernel, by decide +kernel⟩
def t_X2_nodePart (p1 : Int32) (p2 : Int32) (p3 : Int32) (w0 : TS) : Option (Int32 × TS) := gB2 (t_X2_versionOf p1 w0) fun x2 w1 => gB2 (t_X2_part x2 p2 p3 w1) fun x4 w3 => gB1 (tLd w3 1 x4) fun x5 => some (x5, w3)
set_option maxHeartbeats 4000000 in
set_option maxRecDepth 100000 in
theorem kt_X2_nodePart {D : va_G} {dA : Nat → ClassId} {A : Nat → Prop} {K : Nat → Nat} {l : Launch} {wb : gw} {ad : Nat → Nat} (hinj : tInj ad) {h : Nat} (hh : 2 ≤ h) {p1 : Int32} {p2 : Int32} {p3 : Int32} {w0 ww : TS} {rr : Int32} (hf : t_X2_nodePart p1 p2 p3 w0 = some (rr, ww)) : gMet D dA A K l yX2_nodePart (ws_ yX2_nodePart cX2_nodePart 4 (some .int)) h [(ga (some (ad 0))), (gi p1), (gi p2), (gi p3)] (some (gi rr)) (twOf wb ad w0) (twOf wb ad ww) := by
  refine j_start (own := RX2) (by decide +kernel) rfl (Nat.le_of_ble_eq_true rfl) ?_
  intro p e R s m args below meth c C hr hin hw
  unfold t_X2_nodePart at hf
  show gJ D dA A K p l e R s m args below meth c (gEnd D dA A K below args s (twOf wb ad w0) (some (gi rr)) (twOf wb ad ww)) 4 0 [(0, (ga (some (ad 0)))), (1, (gi p1)), (2, (gi p2)), (3, (gi p3))] [] (twOf wb ad w0)
  refine j_aload_n C dX2_nodePart_0 rfl ?_
  refine j_get (v := (ga (some (ad 1)))) C fl_X2_9_2 dX2_nodePart_1 (tw_F hinj rfl) ?_
  refine j_aload_n C dX2_nodePart_4 rfl ?_
  refine j_iload_n C dX2_nodePart_5 rfl ?_
  replace hf := gB2_e hf
  obtain ⟨x2, w1, ew1, hf⟩ := hf
  refine j_callV (As := [(gi p1)]) (rest := [(ga (some (ad 1)))]) (v := (some (gi x2))) C (by omega) (kt_X2_versionOf hinj (by omega) ew1) (tw_cls hinj) rfl q1816 q1818 qs61 q93 q1819 ⟨rfl, hd_X2_versionOf⟩ (by decide) rfl (Nat.le_of_ble_eq_true rfl) dX2_nodePart_6 ?_
  refine j_iload_n C dX2_nodePart_9 rfl ?_
  refine j_iload_n C dX2_nodePart_10 rfl ?_
  replace hf := gB2_e hf
  obtain ⟨x4, w3, ew3, hf⟩ := hf
  refine j_callS (As := [(gi x2), (gi p2), (gi p3)]) (rest := [(ga (some (ad 1)))]) (v := (some (gi x4))) C (by omega) (kt_X2_part hinj (by omega) ew3) q1684 q1685 q93 q1686 hd_X2_part (by decide) rfl (Nat.le_of_ble_eq_true rfl) dX2_nodePart_11 ?_
  replace hf := gB1_e hf
  obtain ⟨x5, ex5, hf⟩ := hf
  refine j_iald C (tw_ld hinj ex5) dX2_nodePart_14 ?_
  obtain ⟨rfl, rfl⟩ := gSome hf
  exact j_iret C hr hw dX2_nodePart_15
def dkwX2_tries_2 : List UInt8 := [42, 180, 0, 22, 4, 29, 96, 46, 96, 79, 177]
abbrev dktX2_tries_2 : List UInt8 := dkwX2_tries_2 ++ []
def dkwX2_tries_1 : List UInt8 := [184, 0, 169, 92, 46, 4, 96, 79, 42, 180, 0, 22, 27, 28, 6, 184, 0, 169, 42, 180, 0, 22, 3, 46]
abbrev dktX2_tries_1 : List UInt8 := dkwX2_tries_1 ++ dktX2_tries_2
def dkwX2_tries_0 : List UInt8 := [42, 27, 28, 4, 182, 0, 171, 62, 42, 27, 3, 29, 182, 0, 174, 42, 180, 0, 22, 27, 28, 5]
abbrev dktX2_tries_0 : List UInt8 := dkwX2_tries_0 ++ dktX2_tries_1
theorem dksX2_tries_0 : cX2_tries.data.toList.drop 0 = dktX2_tries_0 := by decide +kernel
theorem dksX2_tries_1 : cX2_tries.data.toList.drop 22 = dktX2_tries_1 := dk_seg dksX2_tries_0 22 rfl rfl
theorem dksX2_tries_2 : cX2_tries.data.toList.drop 46 = dktX2_tries_2 := dk_seg dksX2_tries_1 24 rfl rfl
theorem dX2_tries_0 : decode cX2_tries 0 = .ok (.aload_n 0, 1) := dk_42 (dk_at dksX2_tries_0 0 rfl rfl)
theorem dX2_tries_1 : decode cX2_tries 1 = .ok (.iload_n 1, 1) := dk_27 (dk_at dksX2_tries_0 1 rfl rfl)
theorem dX2_tries_2 : decode cX2_tries 2 = .ok (.iload_n 2, 1) := dk_28 (dk_at dksX2_tries_0 2 rfl rfl)
theorem dX2_tries_3 : decode cX2_tries 3 = .ok (.iconst 1, 1) := dk_4 (dk_at dksX2_tries_0 3 rfl rfl)
theorem dX2_tries_4 : decode cX2_tries 4 = .ok (.invokevirtual 171, 3) := dk_182 0 171 (dk_at dksX2_tries_0 4 rfl rfl)
theorem dX2_tries_7 : decode cX2_tries 7 = .ok (.istore_n 3, 1) := dk_62 (dk_at dksX2_tries_0 7 rfl rfl)
theorem dX2_tries_8 : decode cX2_tries 8 = .ok (.aload_n 0, 1) := dk_42 (dk_at dksX2_tries_0 8 rfl rfl)
theorem dX2_tries_9 : decode cX2_tries 9 = .ok (.iload_n 1, 1) := dk_27 (dk_at dksX2_tries_0 9 rfl rfl)
theorem dX2_tries_10 : decode cX2_tries 10 = .ok (.iconst 0, 1) := dk_3 (dk_at dksX2_tries_0 10 rfl rfl)
theorem dX2_tries_11 : decode cX2_tries 11 = .ok (.iload_n 3, 1) := dk_29 (dk_at dksX2_tries_0 11 rfl rfl)
theorem dX2_tries_12 : decode cX2_tries 12 = .ok (.invokevirtual 174, 3) := dk_182 0 174 (dk_at dksX2_tries_0 12 rfl rfl)
theorem dX2_tries_15 : decode cX2_tries 15 = .ok (.aload_n 0, 1) := dk_42 (dk_at dksX2_tries_0 15 rfl rfl)
theorem dX2_tries_16 : decode cX2_tries 16 = .ok (.getfield 22, 3) := dk_180 0 22 (dk_at dksX2_tries_0 16 rfl rfl)
theorem dX2_tries_19 : decode cX2_tries 19 = .ok (.iload_n 1, 1) := dk_27 (dk_at dksX2_tries_0 19 rfl rfl)
theorem dX2_tries_20 : decode cX2_tries 20 = .ok (.iload_n 2, 1) := dk_28 (dk_at dksX2_tries_0 20 rfl rfl)
theorem dX2_tries_21 : decode cX2_tries 21 = .ok (.iconst 2, 1) := dk_5 (dk_at dksX2_tries_0 21 rfl rfl)
theorem dX2_tries_22 : decode cX2_tries 22 = .ok (.invokestatic 169, 3) := dk_184 0 169 (dk_at dksX2_tries_1 0 rfl rfl)
theorem dX2_tries_25 : decode cX2_tries 25 = .ok (.dup2, 1) := dk_92 (dk_at dksX2_tries_1 3 rfl rfl)
theorem dX2_tries_26 : decode cX2_tries 26 = .ok (.iaload, 1) := dk_46 (dk_at dksX2_tries_1 4 rfl rfl)
theorem dX2_tries_27 : decode cX2_tries 27 = .ok (.iconst 1, 1) := dk_4 (dk_at dksX2_tries_1 5 rfl rfl)
theorem dX2_tries_28 : decode cX2_tries 28 = .ok (.iadd, 1) := dk_96 (dk_at dksX2_tries_1 6 rfl rfl)
theorem dX2_tries_29 : decode cX2_tries 29 = .ok (.iastore, 1) := dk_79 (dk_at dksX2_tries_1 7 rfl rfl)
theorem dX2_tries_30 : decode cX2_tries 30 = .ok (.aload_n 0, 1) := dk_42 (dk_at dksX2_tries_1 8 rfl rfl)
theorem dX2_tries_31 : decode cX2_tries 31 = .ok (.getfield 22, 3) := dk_180 0 22 (dk_at dksX2_tries_1 9 rfl rfl)
theorem dX2_tries_34 : decode cX2_tries 34 = .ok (.iload_n 1, 1) := dk_27 (dk_at dksX2_tries_1 12 rfl rfl)
theorem dX2_tries_35 : decode cX2_tries 35 = .ok (.iload_n 2, 1) := dk_28 (dk_at dksX2_tries_1 13 rfl rfl)
theorem dX2_tries_36 : decode cX2_tries 36 = .ok (.iconst 3, 1) := dk_6 (dk_at dksX2_tries_1 14 rfl rfl)
theorem dX2_tries_37 : decode cX2_tries 37 = .ok (.invokestatic 169, 3) := dk_184 0 169 (dk_at dksX2_tries_1 15 rfl rfl)
theorem dX2_tries_40 : decode cX2_tries 40 = .ok (.aload_n 0, 1) := dk_42 (dk_at dksX2_tries_1 18 rfl rfl)
theorem dX2_tries_41 : decode cX2_tries 41 = .ok (.getfield 22, 3) := dk_180 0 22 (dk_at dksX2_tries_1 19 rfl rfl)
theorem dX2_tries_44 : decode cX2_tries 44 = .ok (.iconst 0, 1) := dk_3 (dk_at dksX2_tries_1 22 rfl rfl)
theorem dX2_tries_45 : decode cX2_tries 45 = .ok (.iaload, 1) := dk_46 (dk_at dksX2_tries_1 23 rfl rfl)
theorem dX2_tries_46 : decode cX2_tries 46 = .ok (.aload_n 0, 1) := dk_42 (dk_at dksX2_tries_2 0 rfl rfl)
theorem dX2_tries_47 : decode cX2_tries 47 = .ok (.getfield 22, 3) := dk_180 0 22 (dk_at dksX2_tries_2 1 rfl rfl)
theorem dX2_tries_50 : decode cX2_tries 50 = .ok (.iconst 1, 1) := dk_4 (dk_at dksX2_tries_2 4 rfl rfl)
theorem dX2_tries_51 : decode cX2_tries 51 = .ok (.iload_n 3, 1) := dk_29 (dk_at dksX2_tries_2 5 rfl rfl)
theorem dX2_tries_52 : decode cX2_tries 52 = .ok (.iadd, 1) := dk_96 (dk_at dksX2_tries_2 6 rfl rfl)
theorem dX2_tries_53 : decode cX2_tries 53 = .ok (.iaload, 1) := dk_46 (dk_at dksX2_tries_2 7 rfl rfl)
theorem dX2_tries_54 : decode cX2_tries 54 = .ok (.iadd, 1) := dk_96 (dk_at dksX2_tries_2 8 rfl rfl)
theorem dX2_tries_55 : decode cX2_tries 55 = .ok (.iastore, 1) := dk_79 (dk_at dksX2_tries_2 9 rfl rfl)
theorem dX2_tries_56 : decode cX2_tries 56 = .ok (.return_, 1) := dk_177 (dk_at dksX2_tries_2 10 rfl rfl)
theorem hd_X2_nodePart : (yX2_nodePart.cls ≠ "java/lang/invoke/MethodHandle" ∧ yX2_nodePart.cls ≠ "java/lang/invoke/VarHandle" ∧ (parseMethodDescriptor yX2_nodePart.desc).map (fun d => d.parameters.length) = some 3) := ⟨by decide +kernel, by decide +kernel, by decide +kernel⟩
def t_X2_tries (p1 : Int32) (p2 : Int32) (w0 : TS) : Option (Unit × TS) := gB2 (t_X2_nodePart p1 p2 (nI 1) w0) fun x2 w1 => gB2 (t_X2_notes p1 (nI 0) x2 w1) fun _ w3 => gB2 (t_X2_at p1 p2 (nI 2) w3) fun x5 w4 => gB1 (tLd w4 5 x5) fun x6 => gB1 (tSt w4 5 x5 (x6 + (nI 1))) fun w7 => gB2 (t_X2_at p1 p2 (nI 3) w7) fun x9 w8 => gB1 (tLd w8 5 (nI 0)) fun x10 => gB1 (tLd w8 5 ((nI 1) + x2)) fun x11 => gB1 (tSt w8 5 x9 (x10 + x11)) fun w12 => some ((), w12)
set_option maxHeartbeats 4000000 in
set_option maxRecDepth 100000 in
theorem kt_X2_tries {D : va_G} {dA : Nat → ClassId} {A : Nat → Prop} {K : Nat → Nat} {l : Launch} {wb : gw} {ad : Nat → Nat} (hinj : tInj ad) {h : Nat} (hh : 3 ≤ h) {p1 : Int32} {p2 : Int32} {w0 ww : TS} {rr : Unit} (hf : t_X2_tries p1 p2 w0 = some (rr, ww)) : gMet D dA A K l yX2_tries (ws_ yX2_tries cX2_tries 4 none) h [(ga (some (ad 0))), (gi p1), (gi p2)] none (twOf wb ad w0) (twOf wb ad ww) := by
  refine j_start (own := RX2) (by decide +kernel) rfl (Nat.le_of_ble_eq_true rfl) ?_
  intro p e R s m args below meth c C hr hin hw
  unfold t_X2_tries at hf
  show gJ D dA A K p l e R s m args below meth c (gEnd D dA A K below args s (twOf wb ad w0) none (twOf wb ad ww)) 4 0 [(0, (ga (some (ad 0)))), (1, (gi p1)), (2, (gi p2))] [] (twOf wb ad w0)
  refine j_aload_n C dX2_tries_0 rfl ?_
  refine j_iload_n C dX2_tries_1 rfl ?_
  refine j_iload_n C dX2_tries_2 rfl ?_
  refine j_iconst (v := (nI 1)) C dX2_tries_3 (by decide) ?_
  replace hf := gB2_e hf
  obtain ⟨x2, w1, ew1, hf⟩ := hf
  refine j_callV (As := [(gi p1), (gi p2), (gi (nI 1))]) (rest := []) (v := (some (gi x2))) C (by omega) (kt_X2_nodePart hinj (by omega) ew1) (tw_cls hinj) rfl q1812 q1814 qs60 q93 q1815 ⟨rfl, hd_X2_nodePart⟩ (by decide) rfl (Nat.le_of_ble_eq_true rfl) dX2_tries_4 ?_
  refine j_istore_n (lv' := [(3, (gi x2)), (0, (ga (some (ad 0)))), (1, (gi p1)), (2, (gi p2))]) C dX2_tries_7 (by decide) rfl ?_
  refine j_aload_n C dX2_tries_8 rfl ?_
  refine j_iload_n C dX2_tries_9 rfl ?_
  refine j_iconst (v := (nI 0)) C dX2_tries_10 (by decide) ?_
  refine j_iload_n C dX2_tries_11 rfl ?_
  replace hf := gB2_e hf
  obtain ⟨_, w3, ew3, hf⟩ := hf
  refine j_callV (As := [(gi p1), (gi (nI 0)), (gi x2)]) (rest := []) (v := none) C (by omega) (kt_X2_notes hinj (by omega) ew3) (tw_cls hinj) rfl q1828 q1830 qs64 q93 q1831 ⟨rfl, hd_X2_notes⟩ (by decide) rfl (Nat.le_of_ble_eq_true rfl) dX2_tries_12 ?_
  refine j_aload_n C dX2_tries_15 rfl ?_
  refine j_get (v := (ga (some (ad 5)))) C fl_X2_22_2 dX2_tries_16 (tw_F hinj rfl) ?_
  refine j_iload_n C dX2_tries_19 rfl ?_
  refine j_iload_n C dX2_tries_20 rfl ?_
  refine j_iconst (v := (nI 2)) C dX2_tries_21 (by decide) ?_
  replace hf := gB2_e hf
  obtain ⟨x5, w4, ew4, hf⟩ := hf
  refine j_callS (As := [(gi p1), (gi p2), (gi (nI 2))]) (rest := [(ga (some (ad 5)))]) (v := (some (gi x5))) C (by omega) (kt_X2_at hinj (by omega) ew4) q1801 q1802 q93 q1803 hd_X2_at (by decide) rfl (Nat.le_of_ble_eq_true rfl) dX2_tries_22 ?_
  refine j_dup2 C dX2_tries_25 ?_
  replace hf := gB1_e hf
  obtain ⟨x6, ex6, hf⟩ := hf
  refine j_iald C (tw_ld hinj ex6) dX2_tries_26 ?_
  refine j_iconst (v := (nI 1)) C dX2_tries_27 (by decide) ?_
  refine j_iadd C dX2_tries_28 ?_
  replace hf := gB1_e hf
  obtain ⟨w7, ew7, hf⟩ := hf
  refine j_iast C (tw_st hinj ew7) dX2_tries_29 ?_
  refine j_aload_n C dX2_tries_30 rfl ?_
  refine j_get (v := (ga (some (ad 5)))) C fl_X2_22_2 dX2_tries_31 (tw_F hinj rfl) ?_
  refine j_iload_n C dX2_tries_34 rfl ?_
  refine j_iload_n C dX2_tries_35 rfl ?_
  refine j_iconst (v := (nI 3)) C dX2_tries_36 (by decide) ?_
  replace hf := gB2_e hf
  obtain ⟨x9, w8, ew8, hf⟩ := hf
  refine j_callS (As := [(gi p1), (gi p2), (gi (nI 3))]) (rest := [(ga (some (ad 5)))]) (v := (some (gi x9))) C (by omega) (kt_X2_at hinj (by omega) ew8) q1801 q1802 q93 q1803 hd_X2_at (by decide) rfl (Nat.le_of_ble_eq_true rfl) dX2_tries_37 ?_
  refine j_aload_n C dX2_tries_40 rfl ?_
  refine j_get (v := (ga (some (ad 5)))) C fl_X2_22_2 dX2_tries_41 (tw_F hinj rfl) ?_
  refine j_iconst (v := (nI 0)) C dX2_tries_44 (by decide) ?_
  replace hf := gB1_e hf
  obtain ⟨x10, ex10, hf⟩ := hf
  refine j_iald C (tw_ld hinj ex10) dX2_tries_45 ?_
  refine j_aload_n C dX2_tries_46 rfl ?_
  refine j_get (v := (ga (some (ad 5)))) C fl_X2_22_2 dX2_tries_47 (tw_F hinj rfl) ?_
  refine j_iconst (v := (nI 1)) C dX2_tries_50 (by decide) ?_
  refine j_iload_n C dX2_tries_51 rfl ?_
  refine j_iadd C dX2_tries_52 ?_
  replace hf := gB1_e hf
  obtain ⟨x11, ex11, hf⟩ := hf
  refine j_iald C (tw_ld hinj ex11) dX2_tries_53 ?_
  refine j_iadd C dX2_tries_54 ?_
  replace hf := gB1_e hf
  obtain ⟨w12, ew12, hf⟩ := hf
  refine j_iast C (tw_st hinj ew12) dX2_tries_55 ?_
  obtain ⟨rfl, rfl⟩ := gSome hf
  exact j_vret C hr hw dX2_tries_56
def dkwX2_looksAtTask_8 : List UInt8 := [4, 21, 5, 4, 100, 120, 104, 96, 79, 42, 180, 0, 22, 27, 28, 6, 184, 0, 169, 2, 79, 167, 255, 54]
abbrev dktX2_looksAtTask_8 : List UInt8 := dkwX2_looksAtTask_8 ++ []
def dkwX2_looksAtTask_7 : List UInt8 := [6, 182, 0, 184, 172, 42, 180, 0, 22, 27, 28, 7, 184, 0, 169, 21, 4, 42, 27, 28, 6, 182, 0, 171]
abbrev dktX2_looksAtTask_7 : List UInt8 := dkwX2_looksAtTask_7 ++ dktX2_looksAtTask_8
def dkwX2_looksAtTask_6 : List UInt8 := [27, 28, 5, 184, 0, 169, 46, 54, 5, 21, 5, 42, 27, 28, 5, 182, 0, 171, 164, 0, 11, 42, 27, 28]
abbrev dktX2_looksAtTask_6 : List UInt8 := dkwX2_looksAtTask_6 ++ dktX2_looksAtTask_7
def dkwX2_looksAtTask_5 : List UInt8 := [184, 0, 163, 46, 79, 42, 27, 28, 5, 182, 0, 184, 172, 42, 27, 4, 29, 182, 0, 174, 42, 180, 0, 22]
abbrev dktX2_looksAtTask_5 : List UInt8 := dkwX2_looksAtTask_5 ++ dktX2_looksAtTask_6
def dkwX2_looksAtTask_4 : List UInt8 := [92, 46, 4, 96, 79, 42, 180, 0, 22, 27, 28, 8, 184, 0, 169, 42, 180, 0, 22, 27, 16, 6]
abbrev dktX2_looksAtTask_4 : List UInt8 := dkwX2_looksAtTask_4 ++ dktX2_looksAtTask_5
def dkwX2_looksAtTask_3 : List UInt8 := [29, 182, 0, 181, 154, 0, 55, 42, 27, 5, 29, 182, 0, 174, 42, 180, 0, 22, 27, 16, 6, 184, 0, 163]
abbrev dktX2_looksAtTask_3 : List UInt8 := dkwX2_looksAtTask_3 ++ dktX2_looksAtTask_4
def dkwX2_looksAtTask_2 : List UInt8 := [172, 42, 27, 28, 182, 0, 177, 167, 255, 210, 21, 4, 42, 180, 0, 22, 3, 46, 164, 0, 5, 4, 172, 42]
abbrev dktX2_looksAtTask_2 : List UInt8 := dkwX2_looksAtTask_2 ++ dktX2_looksAtTask_3
def dkwX2_looksAtTask_1 : List UInt8 := [156, 0, 34, 42, 180, 0, 22, 27, 28, 7, 184, 0, 169, 46, 42, 180, 0, 22, 3, 46, 164, 0, 5, 4]
abbrev dktX2_looksAtTask_1 : List UInt8 := dkwX2_looksAtTask_1 ++ dktX2_looksAtTask_2
def dkwX2_looksAtTask_0 : List UInt8 := [42, 27, 28, 4, 182, 0, 171, 62, 42, 180, 0, 22, 27, 28, 6, 184, 0, 169, 46, 54, 4, 21, 4]
abbrev dktX2_looksAtTask_0 : List UInt8 := dkwX2_looksAtTask_0 ++ dktX2_looksAtTask_1
theorem dksX2_looksAtTask_0 : cX2_looksAtTask.data.toList.drop 0 = dktX2_looksAtTask_0 := by decide +kernel
theorem dksX2_looksAtTask_1 : cX2_looksAtTask.data.toList.drop 23 = dktX2_looksAtTask_1 := dk_seg dksX2_looksAtTask_0 23 rfl rfl
theorem dksX2_looksAtTask_2 : cX2_looksAtTask.data.toList.drop 47 = dktX2_looksAtTask_2 := dk_seg dksX2_looksAtTask_1 24 rfl rfl
theorem dksX2_looksAtTask_3 : cX2_looksAtTask.data.toList.drop 71 = dktX2_looksAtTask_3 := dk_seg dksX2_looksAtTask_2 24 rfl rfl
theorem dksX2_looksAtTask_4 : cX2_looksAtTask.data.toList.drop 95 = dktX2_looksAtTask_4 := dk_seg dksX2_looksAtTask_3 24 rfl rfl
theorem dksX2_looksAtTask_5 : cX2_looksAtTask.data.toList.drop 117 = dktX2_looksAtTask_5 := dk_seg dksX2_looksAtTask_4 22 rfl rfl
theorem dksX2_looksAtTask_6 : cX2_looksAtTask.data.toList.drop 141 = dktX2_looksAtTask_6 := dk_seg dksX2_looksAtTask_5 24 rfl rfl
theorem dksX2_looksAtTask_7 : cX2_looksAtTask.data.toList.drop 165 = dktX2_looksAtTask_7 := dk_seg dksX2_looksAtTask_6 24 rfl rfl
theorem dksX2_looksAtTask_8 : cX2_looksAtTask.data.toList.drop 189 = dktX2_looksAtTask_8 := dk_seg dksX2_looksAtTask_7 24 rfl rfl
theorem dX2_looksAtTask_0 : decode cX2_looksAtTask 0 = .ok (.aload_n 0, 1) := dk_42 (dk_at dksX2_looksAtTask_0 0 rfl rfl)
theorem dX2_looksAtTask_1 : decode cX2_looksAtTask 1 = .ok (.iload_n 1, 1) := dk_27 (dk_at dksX2_looksAtTask_0 1 rfl rfl)
theorem dX2_looksAtTask_2 : decode cX2_looksAtTask 2 = .ok (.iload_n 2, 1) := dk_28 (dk_at dksX2_looksAtTask_0 2 rfl rfl)
theorem dX2_looksAtTask_3 : decode cX2_looksAtTask 3 = .ok (.iconst 1, 1) := dk_4 (dk_at dksX2_looksAtTask_0 3 rfl rfl)
theorem dX2_looksAtTask_4 : decode cX2_looksAtTask 4 = .ok (.invokevirtual 171, 3) := dk_182 0 171 (dk_at dksX2_looksAtTask_0 4 rfl rfl)
theorem dX2_looksAtTask_7 : decode cX2_looksAtTask 7 = .ok (.istore_n 3, 1) := dk_62 (dk_at dksX2_looksAtTask_0 7 rfl rfl)
theorem dX2_looksAtTask_8 : decode cX2_looksAtTask 8 = .ok (.aload_n 0, 1) := dk_42 (dk_at dksX2_looksAtTask_0 8 rfl rfl)
theorem dX2_looksAtTask_9 : decode cX2_looksAtTask 9 = .ok (.getfield 22, 3) := dk_180 0 22 (dk_at dksX2_looksAtTask_0 9 rfl rfl)
theorem dX2_looksAtTask_12 : decode cX2_looksAtTask 12 = .ok (.iload_n 1, 1) := dk_27 (dk_at dksX2_looksAtTask_0 12 rfl rfl)
theorem dX2_looksAtTask_13 : decode cX2_looksAtTask 13 = .ok (.iload_n 2, 1) := dk_28 (dk_at dksX2_looksAtTask_0 13 rfl rfl)
theorem dX2_looksAtTask_14 : decode cX2_looksAtTask 14 = .ok (.iconst 3, 1) := dk_6 (dk_at dksX2_looksAtTask_0 14 rfl rfl)
theorem dX2_looksAtTask_15 : decode cX2_looksAtTask 15 = .ok (.invokestatic 169, 3) := dk_184 0 169 (dk_at dksX2_looksAtTask_0 15 rfl rfl)
theorem dX2_looksAtTask_18 : decode cX2_looksAtTask 18 = .ok (.iaload, 1) := dk_46 (dk_at dksX2_looksAtTask_0 18 rfl rfl)
theorem dX2_looksAtTask_19 : decode cX2_looksAtTask 19 = .ok (.istore 4, 2) := dk_54 4 (dk_at dksX2_looksAtTask_0 19 rfl rfl)
theorem dX2_looksAtTask_21 : decode cX2_looksAtTask 21 = .ok (.iload 4, 2) := dk_21 4 (dk_at dksX2_looksAtTask_0 21 rfl rfl)
theorem dX2_looksAtTask_23 : decode cX2_looksAtTask 23 = .ok (.ifCond .ge 34, 3) := dk_156 0 34 (dk_at dksX2_looksAtTask_1 0 rfl rfl)
theorem dX2_looksAtTask_26 : decode cX2_looksAtTask 26 = .ok (.aload_n 0, 1) := dk_42 (dk_at dksX2_looksAtTask_1 3 rfl rfl)
theorem dX2_looksAtTask_27 : decode cX2_looksAtTask 27 = .ok (.getfield 22, 3) := dk_180 0 22 (dk_at dksX2_looksAtTask_1 4 rfl rfl)
theorem dX2_looksAtTask_30 : decode cX2_looksAtTask 30 = .ok (.iload_n 1, 1) := dk_27 (dk_at dksX2_looksAtTask_1 7 rfl rfl)
theorem dX2_looksAtTask_31 : decode cX2_looksAtTask 31 = .ok (.iload_n 2, 1) := dk_28 (dk_at dksX2_looksAtTask_1 8 rfl rfl)
theorem dX2_looksAtTask_32 : decode cX2_looksAtTask 32 = .ok (.iconst 4, 1) := dk_7 (dk_at dksX2_looksAtTask_1 9 rfl rfl)
theorem dX2_looksAtTask_33 : decode cX2_looksAtTask 33 = .ok (.invokestatic 169, 3) := dk_184 0 169 (dk_at dksX2_looksAtTask_1 10 rfl rfl)
theorem dX2_looksAtTask_36 : decode cX2_looksAtTask 36 = .ok (.iaload, 1) := dk_46 (dk_at dksX2_looksAtTask_1 13 rfl rfl)
theorem dX2_looksAtTask_37 : decode cX2_looksAtTask 37 = .ok (.aload_n 0, 1) := dk_42 (dk_at dksX2_looksAtTask_1 14 rfl rfl)
theorem dX2_looksAtTask_38 : decode cX2_looksAtTask 38 = .ok (.getfield 22, 3) := dk_180 0 22 (dk_at dksX2_looksAtTask_1 15 rfl rfl)
theorem dX2_looksAtTask_41 : decode cX2_looksAtTask 41 = .ok (.iconst 0, 1) := dk_3 (dk_at dksX2_looksAtTask_1 18 rfl rfl)
theorem dX2_looksAtTask_42 : decode cX2_looksAtTask 42 = .ok (.iaload, 1) := dk_46 (dk_at dksX2_looksAtTask_1 19 rfl rfl)
theorem dX2_looksAtTask_43 : decode cX2_looksAtTask 43 = .ok (.if_icmp .le 5, 3) := dk_164 0 5 (dk_at dksX2_looksAtTask_1 20 rfl rfl)
theorem dX2_looksAtTask_46 : decode cX2_looksAtTask 46 = .ok (.iconst 1, 1) := dk_4 (dk_at dksX2_looksAtTask_1 23 rfl rfl)
theorem dX2_looksAtTask_47 : decode cX2_looksAtTask 47 = .ok (.ireturn, 1) := dk_172 (dk_at dksX2_looksAtTask_2 0 rfl rfl)
theorem dX2_looksAtTask_48 : decode cX2_looksAtTask 48 = .ok (.aload_n 0, 1) := dk_42 (dk_at dksX2_looksAtTask_2 1 rfl rfl)
theorem dX2_looksAtTask_49 : decode cX2_looksAtTask 49 = .ok (.iload_n 1, 1) := dk_27 (dk_at dksX2_looksAtTask_2 2 rfl rfl)
theorem dX2_looksAtTask_50 : decode cX2_looksAtTask 50 = .ok (.iload_n 2, 1) := dk_28 (dk_at dksX2_looksAtTask_2 3 rfl rfl)
theorem dX2_looksAtTask_51 : decode cX2_looksAtTask 51 = .ok (.invokevirtual 177, 3) := dk_182 0 177 (dk_at dksX2_looksAtTask_2 4 rfl rfl)
theorem dX2_looksAtTask_54 : decode cX2_looksAtTask 54 = .ok (.goto (-46), 3) := dk_167 255 210 (dk_at dksX2_looksAtTask_2 7 rfl rfl)
theorem dX2_looksAtTask_57 : decode cX2_looksAtTask 57 = .ok (.iload 4, 2) := dk_21 4 (dk_at dksX2_looksAtTask_2 10 rfl rfl)
theorem dX2_looksAtTask_59 : decode cX2_looksAtTask 59 = .ok (.aload_n 0, 1) := dk_42 (dk_at dksX2_looksAtTask_2 12 rfl rfl)
theorem dX2_looksAtTask_60 : decode cX2_looksAtTask 60 = .ok (.getfield 22, 3) := dk_180 0 22 (dk_at dksX2_looksAtTask_2 13 rfl rfl)
theorem dX2_looksAtTask_63 : decode cX2_looksAtTask 63 = .ok (.iconst 0, 1) := dk_3 (dk_at dksX2_looksAtTask_2 16 rfl rfl)
theorem dX2_looksAtTask_64 : decode cX2_looksAtTask 64 = .ok (.iaload, 1) := dk_46 (dk_at dksX2_looksAtTask_2 17 rfl rfl)
theorem dX2_looksAtTask_65 : decode cX2_looksAtTask 65 = .ok (.if_icmp .le 5, 3) := dk_164 0 5 (dk_at dksX2_looksAtTask_2 18 rfl rfl)
theorem dX2_looksAtTask_68 : decode cX2_looksAtTask 68 = .ok (.iconst 1, 1) := dk_4 (dk_at dksX2_looksAtTask_2 21 rfl rfl)
theorem dX2_looksAtTask_69 : decode cX2_looksAtTask 69 = .ok (.ireturn, 1) := dk_172 (dk_at dksX2_looksAtTask_2 22 rfl rfl)
theorem dX2_looksAtTask_70 : decode cX2_looksAtTask 70 = .ok (.aload_n 0, 1) := dk_42 (dk_at dksX2_looksAtTask_2 23 rfl rfl)
theorem dX2_looksAtTask_71 : decode cX2_looksAtTask 71 = .ok (.iload_n 3, 1) := dk_29 (dk_at dksX2_looksAtTask_3 0 rfl rfl)
theorem dX2_looksAtTask_72 : decode cX2_looksAtTask 72 = .ok (.invokevirtual 181, 3) := dk_182 0 181 (dk_at dksX2_looksAtTask_3 1 rfl rfl)
theorem dX2_looksAtTask_75 : decode cX2_looksAtTask 75 = .ok (.ifCond .ne 55, 3) := dk_154 0 55 (dk_at dksX2_looksAtTask_3 4 rfl rfl)
theorem dX2_looksAtTask_78 : decode cX2_looksAtTask 78 = .ok (.aload_n 0, 1) := dk_42 (dk_at dksX2_looksAtTask_3 7 rfl rfl)
theorem dX2_looksAtTask_79 : decode cX2_looksAtTask 79 = .ok (.iload_n 1, 1) := dk_27 (dk_at dksX2_looksAtTask_3 8 rfl rfl)
theorem dX2_looksAtTask_80 : decode cX2_looksAtTask 80 = .ok (.iconst 2, 1) := dk_5 (dk_at dksX2_looksAtTask_3 9 rfl rfl)
theorem dX2_looksAtTask_81 : decode cX2_looksAtTask 81 = .ok (.iload_n 3, 1) := dk_29 (dk_at dksX2_looksAtTask_3 10 rfl rfl)
theorem dX2_looksAtTask_82 : decode cX2_looksAtTask 82 = .ok (.invokevirtual 174, 3) := dk_182 0 174 (dk_at dksX2_looksAtTask_3 11 rfl rfl)
theorem dX2_looksAtTask_85 : decode cX2_looksAtTask 85 = .ok (.aload_n 0, 1) := dk_42 (dk_at dksX2_looksAtTask_3 14 rfl rfl)
theorem dX2_looksAtTask_86 : decode cX2_looksAtTask 86 = .ok (.getfield 22, 3) := dk_180 0 22 (dk_at dksX2_looksAtTask_3 15 rfl rfl)
theorem dX2_looksAtTask_89 : decode cX2_looksAtTask 89 = .ok (.iload_n 1, 1) := dk_27 (dk_at dksX2_looksAtTask_3 18 rfl rfl)
theorem dX2_looksAtTask_90 : decode cX2_looksAtTask 90 = .ok (.bipush 6, 2) := dk_16 6 (dk_at dksX2_looksAtTask_3 19 rfl rfl)
theorem dX2_looksAtTask_92 : decode cX2_looksAtTask 92 = .ok (.invokestatic 163, 3) := dk_184 0 163 (dk_at dksX2_looksAtTask_3 21 rfl rfl)
theorem dX2_looksAtTask_95 : decode cX2_looksAtTask 95 = .ok (.dup2, 1) := dk_92 (dk_at dksX2_looksAtTask_4 0 rfl rfl)
theorem dX2_looksAtTask_96 : decode cX2_looksAtTask 96 = .ok (.iaload, 1) := dk_46 (dk_at dksX2_looksAtTask_4 1 rfl rfl)
theorem dX2_looksAtTask_97 : decode cX2_looksAtTask 97 = .ok (.iconst 1, 1) := dk_4 (dk_at dksX2_looksAtTask_4 2 rfl rfl)
theorem dX2_looksAtTask_98 : decode cX2_looksAtTask 98 = .ok (.iadd, 1) := dk_96 (dk_at dksX2_looksAtTask_4 3 rfl rfl)
theorem dX2_looksAtTask_99 : decode cX2_looksAtTask 99 = .ok (.iastore, 1) := dk_79 (dk_at dksX2_looksAtTask_4 4 rfl rfl)
theorem dX2_looksAtTask_100 : decode cX2_looksAtTask 100 = .ok (.aload_n 0, 1) := dk_42 (dk_at dksX2_looksAtTask_4 5 rfl rfl)
theorem dX2_looksAtTask_101 : decode cX2_looksAtTask 101 = .ok (.getfield 22, 3) := dk_180 0 22 (dk_at dksX2_looksAtTask_4 6 rfl rfl)
theorem dX2_looksAtTask_104 : decode cX2_looksAtTask 104 = .ok (.iload_n 1, 1) := dk_27 (dk_at dksX2_looksAtTask_4 9 rfl rfl)
theorem dX2_looksAtTask_105 : decode cX2_looksAtTask 105 = .ok (.iload_n 2, 1) := dk_28 (dk_at dksX2_looksAtTask_4 10 rfl rfl)
theorem dX2_looksAtTask_106 : decode cX2_looksAtTask 106 = .ok (.iconst 5, 1) := dk_8 (dk_at dksX2_looksAtTask_4 11 rfl rfl)
theorem dX2_looksAtTask_107 : decode cX2_looksAtTask 107 = .ok (.invokestatic 169, 3) := dk_184 0 169 (dk_at dksX2_looksAtTask_4 12 rfl rfl)
theorem dX2_looksAtTask_110 : decode cX2_looksAtTask 110 = .ok (.aload_n 0, 1) := dk_42 (dk_at dksX2_looksAtTask_4 15 rfl rfl)
theorem dX2_looksAtTask_111 : decode cX2_looksAtTask 111 = .ok (.getfield 22, 3) := dk_180 0 22 (dk_at dksX2_looksAtTask_4 16 rfl rfl)
theorem dX2_looksAtTask_114 : decode cX2_looksAtTask 114 = .ok (.iload_n 1, 1) := dk_27 (dk_at dksX2_looksAtTask_4 19 rfl rfl)
theorem dX2_looksAtTask_115 : decode cX2_looksAtTask 115 = .ok (.bipush 6, 2) := dk_16 6 (dk_at dksX2_looksAtTask_4 20 rfl rfl)
theorem dX2_looksAtTask_117 : decode cX2_looksAtTask 117 = .ok (.invokestatic 163, 3) := dk_184 0 163 (dk_at dksX2_looksAtTask_5 0 rfl rfl)
theorem dX2_looksAtTask_120 : decode cX2_looksAtTask 120 = .ok (.iaload, 1) := dk_46 (dk_at dksX2_looksAtTask_5 3 rfl rfl)
theorem dX2_looksAtTask_121 : decode cX2_looksAtTask 121 = .ok (.iastore, 1) := dk_79 (dk_at dksX2_looksAtTask_5 4 rfl rfl)
theorem dX2_looksAtTask_122 : decode cX2_looksAtTask 122 = .ok (.aload_n 0, 1) := dk_42 (dk_at dksX2_looksAtTask_5 5 rfl rfl)
theorem dX2_looksAtTask_123 : decode cX2_looksAtTask 123 = .ok (.iload_n 1, 1) := dk_27 (dk_at dksX2_looksAtTask_5 6 rfl rfl)
theorem dX2_looksAtTask_124 : decode cX2_looksAtTask 124 = .ok (.iload_n 2, 1) := dk_28 (dk_at dksX2_looksAtTask_5 7 rfl rfl)
theorem dX2_looksAtTask_125 : decode cX2_looksAtTask 125 = .ok (.iconst 2, 1) := dk_5 (dk_at dksX2_looksAtTask_5 8 rfl rfl)
theorem dX2_looksAtTask_126 : decode cX2_looksAtTask 126 = .ok (.invokevirtual 184, 3) := dk_182 0 184 (dk_at dksX2_looksAtTask_5 9 rfl rfl)
theorem dX2_looksAtTask_129 : decode cX2_looksAtTask 129 = .ok (.ireturn, 1) := dk_172 (dk_at dksX2_looksAtTask_5 12 rfl rfl)
theorem dX2_looksAtTask_130 : decode cX2_looksAtTask 130 = .ok (.aload_n 0, 1) := dk_42 (dk_at dksX2_looksAtTask_5 13 rfl rfl)
theorem dX2_looksAtTask_131 : decode cX2_looksAtTask 131 = .ok (.iload_n 1, 1) := dk_27 (dk_at dksX2_looksAtTask_5 14 rfl rfl)
theorem dX2_looksAtTask_132 : decode cX2_looksAtTask 132 = .ok (.iconst 1, 1) := dk_4 (dk_at dksX2_looksAtTask_5 15 rfl rfl)
theorem dX2_looksAtTask_133 : decode cX2_looksAtTask 133 = .ok (.iload_n 3, 1) := dk_29 (dk_at dksX2_looksAtTask_5 16 rfl rfl)
theorem dX2_looksAtTask_134 : decode cX2_looksAtTask 134 = .ok (.invokevirtual 174, 3) := dk_182 0 174 (dk_at dksX2_looksAtTask_5 17 rfl rfl)
theorem dX2_looksAtTask_137 : decode cX2_looksAtTask 137 = .ok (.aload_n 0, 1) := dk_42 (dk_at dksX2_looksAtTask_5 20 rfl rfl)
theorem dX2_looksAtTask_138 : decode cX2_looksAtTask 138 = .ok (.getfield 22, 3) := dk_180 0 22 (dk_at dksX2_looksAtTask_5 21 rfl rfl)
theorem dX2_looksAtTask_141 : decode cX2_looksAtTask 141 = .ok (.iload_n 1, 1) := dk_27 (dk_at dksX2_looksAtTask_6 0 rfl rfl)
theorem dX2_looksAtTask_142 : decode cX2_looksAtTask 142 = .ok (.iload_n 2, 1) := dk_28 (dk_at dksX2_looksAtTask_6 1 rfl rfl)
theorem dX2_looksAtTask_143 : decode cX2_looksAtTask 143 = .ok (.iconst 2, 1) := dk_5 (dk_at dksX2_looksAtTask_6 2 rfl rfl)
theorem dX2_looksAtTask_144 : decode cX2_looksAtTask 144 = .ok (.invokestatic 169, 3) := dk_184 0 169 (dk_at dksX2_looksAtTask_6 3 rfl rfl)
theorem dX2_looksAtTask_147 : decode cX2_looksAtTask 147 = .ok (.iaload, 1) := dk_46 (dk_at dksX2_looksAtTask_6 6 rfl rfl)
theorem dX2_looksAtTask_148 : decode cX2_looksAtTask 148 = .ok (.istore 5, 2) := dk_54 5 (dk_at dksX2_looksAtTask_6 7 rfl rfl)
theorem dX2_looksAtTask_150 : decode cX2_looksAtTask 150 = .ok (.iload 5, 2) := dk_21 5 (dk_at dksX2_looksAtTask_6 9 rfl rfl)
theorem dX2_looksAtTask_152 : decode cX2_looksAtTask 152 = .ok (.aload_n 0, 1) := dk_42 (dk_at dksX2_looksAtTask_6 11 rfl rfl)
theorem dX2_looksAtTask_153 : decode cX2_looksAtTask 153 = .ok (.iload_n 1, 1) := dk_27 (dk_at dksX2_looksAtTask_6 12 rfl rfl)
theorem dX2_looksAtTask_154 : decode cX2_looksAtTask 154 = .ok (.iload_n 2, 1) := dk_28 (dk_at dksX2_looksAtTask_6 13 rfl rfl)
theorem dX2_looksAtTask_155 : decode cX2_looksAtTask 155 = .ok (.iconst 2, 1) := dk_5 (dk_at dksX2_looksAtTask_6 14 rfl rfl)
theorem dX2_looksAtTask_156 : decode cX2_looksAtTask 156 = .ok (.invokevirtual 171, 3) := dk_182 0 171 (dk_at dksX2_looksAtTask_6 15 rfl rfl)
theorem dX2_looksAtTask_159 : decode cX2_looksAtTask 159 = .ok (.if_icmp .le 11, 3) := dk_164 0 11 (dk_at dksX2_looksAtTask_6 18 rfl rfl)
theorem dX2_looksAtTask_162 : decode cX2_looksAtTask 162 = .ok (.aload_n 0, 1) := dk_42 (dk_at dksX2_looksAtTask_6 21 rfl rfl)
theorem dX2_looksAtTask_163 : decode cX2_looksAtTask 163 = .ok (.iload_n 1, 1) := dk_27 (dk_at dksX2_looksAtTask_6 22 rfl rfl)
theorem dX2_looksAtTask_164 : decode cX2_looksAtTask 164 = .ok (.iload_n 2, 1) := dk_28 (dk_at dksX2_looksAtTask_6 23 rfl rfl)
theorem dX2_looksAtTask_165 : decode cX2_looksAtTask 165 = .ok (.iconst 3, 1) := dk_6 (dk_at dksX2_looksAtTask_7 0 rfl rfl)
theorem dX2_looksAtTask_166 : decode cX2_looksAtTask 166 = .ok (.invokevirtual 184, 3) := dk_182 0 184 (dk_at dksX2_looksAtTask_7 1 rfl rfl)
theorem dX2_looksAtTask_169 : decode cX2_looksAtTask 169 = .ok (.ireturn, 1) := dk_172 (dk_at dksX2_looksAtTask_7 4 rfl rfl)
theorem dX2_looksAtTask_170 : decode cX2_looksAtTask 170 = .ok (.aload_n 0, 1) := dk_42 (dk_at dksX2_looksAtTask_7 5 rfl rfl)
theorem dX2_looksAtTask_171 : decode cX2_looksAtTask 171 = .ok (.getfield 22, 3) := dk_180 0 22 (dk_at dksX2_looksAtTask_7 6 rfl rfl)
theorem dX2_looksAtTask_174 : decode cX2_looksAtTask 174 = .ok (.iload_n 1, 1) := dk_27 (dk_at dksX2_looksAtTask_7 9 rfl rfl)
theorem dX2_looksAtTask_175 : decode cX2_looksAtTask 175 = .ok (.iload_n 2, 1) := dk_28 (dk_at dksX2_looksAtTask_7 10 rfl rfl)
theorem dX2_looksAtTask_176 : decode cX2_looksAtTask 176 = .ok (.iconst 4, 1) := dk_7 (dk_at dksX2_looksAtTask_7 11 rfl rfl)
theorem dX2_looksAtTask_177 : decode cX2_looksAtTask 177 = .ok (.invokestatic 169, 3) := dk_184 0 169 (dk_at dksX2_looksAtTask_7 12 rfl rfl)
theorem dX2_looksAtTask_180 : decode cX2_looksAtTask 180 = .ok (.iload 4, 2) := dk_21 4 (dk_at dksX2_looksAtTask_7 15 rfl rfl)
theorem dX2_looksAtTask_182 : decode cX2_looksAtTask 182 = .ok (.aload_n 0, 1) := dk_42 (dk_at dksX2_looksAtTask_7 17 rfl rfl)
theorem dX2_looksAtTask_183 : decode cX2_looksAtTask 183 = .ok (.iload_n 1, 1) := dk_27 (dk_at dksX2_looksAtTask_7 18 rfl rfl)
theorem dX2_looksAtTask_184 : decode cX2_looksAtTask 184 = .ok (.iload_n 2, 1) := dk_28 (dk_at dksX2_looksAtTask_7 19 rfl rfl)
theorem dX2_looksAtTask_185 : decode cX2_looksAtTask 185 = .ok (.iconst 3, 1) := dk_6 (dk_at dksX2_looksAtTask_7 20 rfl rfl)
theorem dX2_looksAtTask_186 : decode cX2_looksAtTask 186 = .ok (.invokevirtual 171, 3) := dk_182 0 171 (dk_at dksX2_looksAtTask_7 21 rfl rfl)
theorem dX2_looksAtTask_189 : decode cX2_looksAtTask 189 = .ok (.iconst 1, 1) := dk_4 (dk_at dksX2_looksAtTask_8 0 rfl rfl)
theorem dX2_looksAtTask_190 : decode cX2_looksAtTask 190 = .ok (.iload 5, 2) := dk_21 5 (dk_at dksX2_looksAtTask_8 1 rfl rfl)
theorem dX2_looksAtTask_192 : decode cX2_looksAtTask 192 = .ok (.iconst 1, 1) := dk_4 (dk_at dksX2_looksAtTask_8 3 rfl rfl)
theorem dX2_looksAtTask_193 : decode cX2_looksAtTask 193 = .ok (.isub, 1) := dk_100 (dk_at dksX2_looksAtTask_8 4 rfl rfl)
theorem dX2_looksAtTask_194 : decode cX2_looksAtTask 194 = .ok (.ishl, 1) := dk_120 (dk_at dksX2_looksAtTask_8 5 rfl rfl)
theorem dX2_looksAtTask_195 : decode cX2_looksAtTask 195 = .ok (.imul, 1) := dk_104 (dk_at dksX2_looksAtTask_8 6 rfl rfl)
theorem dX2_looksAtTask_196 : decode cX2_looksAtTask 196 = .ok (.iadd, 1) := dk_96 (dk_at dksX2_looksAtTask_8 7 rfl rfl)
theorem dX2_looksAtTask_197 : decode cX2_looksAtTask 197 = .ok (.iastore, 1) := dk_79 (dk_at dksX2_looksAtTask_8 8 rfl rfl)
theorem dX2_looksAtTask_198 : decode cX2_looksAtTask 198 = .ok (.aload_n 0, 1) := dk_42 (dk_at dksX2_looksAtTask_8 9 rfl rfl)
theorem dX2_looksAtTask_199 : decode cX2_looksAtTask 199 = .ok (.getfield 22, 3) := dk_180 0 22 (dk_at dksX2_looksAtTask_8 10 rfl rfl)
theorem dX2_looksAtTask_202 : decode cX2_looksAtTask 202 = .ok (.iload_n 1, 1) := dk_27 (dk_at dksX2_looksAtTask_8 13 rfl rfl)
theorem dX2_looksAtTask_203 : decode cX2_looksAtTask 203 = .ok (.iload_n 2, 1) := dk_28 (dk_at dksX2_looksAtTask_8 14 rfl rfl)
theorem dX2_looksAtTask_204 : decode cX2_looksAtTask 204 = .ok (.iconst 3, 1) := dk_6 (dk_at dksX2_looksAtTask_8 15 rfl rfl)
theorem dX2_looksAtTask_205 : decode cX2_looksAtTask 205 = .ok (.invokestatic 169, 3) := dk_184 0 169 (dk_at dksX2_looksAtTask_8 16 rfl rfl)
theorem dX2_looksAtTask_208 : decode cX2_looksAtTask 208 = .ok (.iconst (-1), 1) := dk_2 (dk_at dksX2_looksAtTask_8 19 rfl rfl)
theorem dX2_looksAtTask_209 : decode cX2_looksAtTask 209 = .ok (.iastore, 1) := dk_79 (dk_at dksX2_looksAtTask_8 20 rfl rfl)
theorem dX2_looksAtTask_210 : decode cX2_looksAtTask 210 = .ok (.goto (-202), 3) := dk_167 255 54 (dk_at dksX2_looksAtTask_8 21 rfl rfl)
theorem hd_X2_fails : (yX2_fails.cls ≠ "java/lang/invoke/MethodHandle" ∧ yX2_fails.cls ≠ "java/lang/invoke/VarHandle" ∧ (parseMethodDescriptor yX2_fails.desc).map (fun d => d.parameters.length) = some 1) := ⟨by decide +kernel, by decide +kernel, by decide +kernel⟩
theorem hd_X2_comesTo : (yX2_comesTo.cls ≠ "java/lang/invoke/MethodHandle" ∧ yX2_comesTo.cls ≠ "java/lang/invoke/VarHandle" ∧ (parseMethodDescriptor yX2_comesTo.desc).map (fun d => d.parameters.length) = some 3) := ⟨by decide +kernel, by decide +kernel, by decide +kernel⟩
theorem hd_X2_tries : (yX2_tries.cls ≠ "java/lang/invoke/MethodHandle" ∧ yX2_tries.cls ≠ "java/lang/invoke/VarHandle" ∧ (parseMethodDescriptor yX2_tries.desc).map (fun d => d.parameters.length) = some 2) := ⟨by decide +kernel, by decide +kernel, by decide +kernel⟩
def t_X2_looksAtTask (p1 : Int32) (p2 : Int32) (w0 : TS) : Option (Int32 × TS) := gB2 (t_X2_nodePart p1 p2 (nI 1) w0) fun x2 w1 => gL3 (fun k7 (x4 : Int32) (x5 : Int32) (x6 : Int32) (w3 : TS) => gB2 (t_X2_at x4 x5 (nI 3) w3) fun x9 w8 => gB1 (tLd w8 5 x9) fun x10 => if 0 ≤ x10 then gB1 (tLd w8 5 (nI 0)) fun x12 => if x10 ≤ x12 then gB2 (t_X2_fails x6 w8) fun x15 w14 => if x15 = 0 then gB2 (t_X2_notes x4 (nI 2) x6 w14) fun _ w34 => gB2 (t_X2_of x4 (nI 6) w34) fun x36 w35 => gB1 (tLd w35 5 x36) fun x37 => gB1 (tSt w35 5 x36 (x37 + (nI 1))) fun w38 => gB2 (t_X2_at x4 x5 (nI 5) w38) fun x40 w39 => gB2 (t_X2_of x4 (nI 6) w39) fun x42 w41 => gB1 (tLd w41 5 x42) fun x43 => gB1 (tSt w41 5 x40 x43) fun w44 => gB2 (t_X2_comesTo x4 x5 (nI 2) w44) fun x46 w45 => some (x46, w45) else gB2 (t_X2_notes x4 (nI 1) x6 w14) fun _ w17 => gB2 (t_X2_at x4 x5 (nI 2) w17) fun x19 w18 => gB1 (tLd w18 5 x19) fun x20 => gB2 (t_X2_nodePart x4 x5 (nI 2) w18) fun x22 w21 => if x20 ≤ x22 then gB2 (t_X2_at x4 x5 (nI 4) w21) fun x25 w24 => gB2 (t_X2_nodePart x4 x5 (nI 3) w24) fun x27 w26 => gB1 (tSt w26 5 x25 (x10 + (x27 * ((nI 1) <<< ((x20 - (nI 1)) &&& 31))))) fun w28 => gB2 (t_X2_at x4 x5 (nI 3) w28) fun x30 w29 => gB1 (tSt w29 5 x30 (-1)) fun w31 => k7 x4 x5 x6 w31 else gB2 (t_X2_comesTo x4 x5 (nI 3) w21) fun x33 w32 => some (x33, w32) else some ((nI 1), w8) else gB2 (t_X2_at x4 x5 (nI 4) w8) fun x48 w47 => gB1 (tLd w47 5 x48) fun x49 => gB1 (tLd w47 5 (nI 0)) fun x50 => if x49 ≤ x50 then gB2 (t_X2_tries x4 x5 w47) fun _ w52 => k7 x4 x5 x6 w52 else some ((nI 1), w47)) 20000 p1 p2 x2 w1
set_option maxHeartbeats 4000000 in
set_option maxRecDepth 100000 in
theorem kt_X2_looksAtTask {D : va_G} {dA : Nat → ClassId} {A : Nat → Prop} {K : Nat → Nat} {l : Launch} {wb : gw} {ad : Nat → Nat} (hinj : tInj ad) {h : Nat} (hh : 4 ≤ h) {p1 : Int32} {p2 : Int32} {w0 ww : TS} {rr : Int32} (hf : t_X2_looksAtTask p1 p2 w0 = some (rr, ww)) : gMet D dA A K l yX2_looksAtTask (ws_ yX2_looksAtTask cX2_looksAtTask 6 (some .int)) h [(ga (some (ad 0))), (gi p1), (gi p2)] (some (gi rr)) (twOf wb ad w0) (twOf wb ad ww) := by
  refine j_start (own := RX2) (by decide +kernel) rfl (Nat.le_of_ble_eq_true rfl) ?_
  intro p e R s m args below meth c C hr hin hw
  unfold t_X2_looksAtTask at hf
  show gJ D dA A K p l e R s m args below meth c (gEnd D dA A K below args s (twOf wb ad w0) (some (gi rr)) (twOf wb ad ww)) 6 0 [(0, (ga (some (ad 0)))), (1, (gi p1)), (2, (gi p2))] [] (twOf wb ad w0)
  refine j_aload_n C dX2_looksAtTask_0 rfl ?_
  refine j_iload_n C dX2_looksAtTask_1 rfl ?_
  refine j_iload_n C dX2_looksAtTask_2 rfl ?_
  refine j_iconst (v := (nI 1)) C dX2_looksAtTask_3 (by decide) ?_
  replace hf := gB2_e hf
  obtain ⟨x2, w1, ew1, hf⟩ := hf
  refine j_callV (As := [(gi p1), (gi p2), (gi (nI 1))]) (rest := []) (v := (some (gi x2))) C (by omega) (kt_X2_nodePart hinj (by omega) ew1) (tw_cls hinj) rfl q1812 q1814 qs60 q93 q1815 ⟨rfl, hd_X2_nodePart⟩ (by decide) rfl (Nat.le_of_ble_eq_true rfl) dX2_looksAtTask_4 ?_
  refine j_istore_n (lv' := [(3, (gi x2)), (0, (ga (some (ad 0)))), (1, (gi p1)), (2, (gi p2))]) C dX2_looksAtTask_7 (by decide) rfl ?_
  refine j_sub (lv' := [(0, (ga (some (ad 0)))), (1, (gi p1)), (2, (gi p2)), (3, (gi x2))]) (gL_cons rfl (gL_cons rfl (gL_cons rfl (gL_cons rfl (gL_nil))))) ?_
  refine gL3_e (fun (x4 : Int32) (x5 : Int32) (x6 : Int32) (w3 : TS) => gJ D dA A K p l e R s m args below meth c (gEnd D dA A K below args s (twOf wb ad w0) (some (gi rr)) (twOf wb ad ww)) 6 8 [(0, (ga (some (ad 0)))), (1, (gi x4)), (2, (gi x5)), (3, (gi x6))] [] (twOf wb ad w3)) ?_ _ _ _ _ _ hf
  intro k7 jk7 x4 x5 x6 w3 hf
  refine j_aload_n C dX2_looksAtTask_8 rfl ?_
  refine j_get (v := (ga (some (ad 5)))) C fl_X2_22_2 dX2_looksAtTask_9 (tw_F hinj rfl) ?_
  refine j_iload_n C dX2_looksAtTask_12 rfl ?_
  refine j_iload_n C dX2_looksAtTask_13 rfl ?_
  refine j_iconst (v := (nI 3)) C dX2_looksAtTask_14 (by decide) ?_
  replace hf := gB2_e hf
  obtain ⟨x9, w8, ew8, hf⟩ := hf
  refine j_callS (As := [(gi x4), (gi x5), (gi (nI 3))]) (rest := [(ga (some (ad 5)))]) (v := (some (gi x9))) C (by omega) (kt_X2_at hinj (by omega) ew8) q1801 q1802 q93 q1803 hd_X2_at (by decide) rfl (Nat.le_of_ble_eq_true rfl) dX2_looksAtTask_15 ?_
  replace hf := gB1_e hf
  obtain ⟨x10, ex10, hf⟩ := hf
  refine j_iald C (tw_ld hinj ex10) dX2_looksAtTask_18 ?_
  refine j_istore (lv' := [(4, (gi x10)), (0, (ga (some (ad 0)))), (1, (gi x4)), (2, (gi x5)), (3, (gi x6))]) C dX2_looksAtTask_19 (by decide) rfl ?_
  refine j_iload C dX2_looksAtTask_21 rfl ?_
  refine j_if_ge (tgt := 57) C dX2_looksAtTask_23 (by decide) (fun c11 => ?_) (fun c11 => ?_)
  · replace hf := gIf_t hf c11
    refine j_iload C dX2_looksAtTask_57 rfl ?_
    refine j_aload_n C dX2_looksAtTask_59 rfl ?_
    refine j_get (v := (ga (some (ad 5)))) C fl_X2_22_2 dX2_looksAtTask_60 (tw_F hinj rfl) ?_
    refine j_iconst (v := (nI 0)) C dX2_looksAtTask_63 (by decide) ?_
    replace hf := gB1_e hf
    obtain ⟨x12, ex12, hf⟩ := hf
    refine j_iald C (tw_ld hinj ex12) dX2_looksAtTask_64 ?_
    refine j_icmp_le (tgt := 70) C dX2_looksAtTask_65 (by decide) (fun c13 => ?_) (fun c13 => ?_)
    · replace hf := gIf_t hf c13
      refine j_aload_n C dX2_looksAtTask_70 rfl ?_
      refine j_iload_n C dX2_looksAtTask_71 rfl ?_
      replace hf := gB2_e hf
      obtain ⟨x15, w14, ew14, hf⟩ := hf
      refine j_callV (As := [(gi x6)]) (rest := []) (v := (some (gi x15))) C (by omega) (kt_X2_fails hinj (by omega) ew14) (tw_cls hinj) rfl q1840 q1842 qs67 q93 q1843 ⟨rfl, hd_X2_fails⟩ (by decide) rfl (Nat.le_of_ble_eq_true rfl) dX2_looksAtTask_72 ?_
      refine j_if_ne (tgt := 130) C dX2_looksAtTask_75 (by decide) (fun c16 => ?_) (fun c16 => ?_)
      · replace hf := gIf_f hf c16
        refine j_aload_n C dX2_looksAtTask_130 rfl ?_
        refine j_iload_n C dX2_looksAtTask_131 rfl ?_
        refine j_iconst (v := (nI 1)) C dX2_looksAtTask_132 (by decide) ?_
        refine j_iload_n C dX2_looksAtTask_133 rfl ?_
        replace hf := gB2_e hf
        obtain ⟨_, w17, ew17, hf⟩ := hf
        refine j_callV (As := [(gi x4), (gi (nI 1)), (gi x6)]) (rest := []) (v := none) C (by omega) (kt_X2_notes hinj (by omega) ew17) (tw_cls hinj) rfl q1828 q1830 qs64 q93 q1831 ⟨rfl, hd_X2_notes⟩ (by decide) rfl (Nat.le_of_ble_eq_true rfl) dX2_looksAtTask_134 ?_
        refine j_aload_n C dX2_looksAtTask_137 rfl ?_
        refine j_get (v := (ga (some (ad 5)))) C fl_X2_22_2 dX2_looksAtTask_138 (tw_F hinj rfl) ?_
        refine j_iload_n C dX2_looksAtTask_141 rfl ?_
        refine j_iload_n C dX2_looksAtTask_142 rfl ?_
        refine j_iconst (v := (nI 2)) C dX2_looksAtTask_143 (by decide) ?_
        replace hf := gB2_e hf
        obtain ⟨x19, w18, ew18, hf⟩ := hf
        refine j_callS (As := [(gi x4), (gi x5), (gi (nI 2))]) (rest := [(ga (some (ad 5)))]) (v := (some (gi x19))) C (by omega) (kt_X2_at hinj (by omega) ew18) q1801 q1802 q93 q1803 hd_X2_at (by decide) rfl (Nat.le_of_ble_eq_true rfl) dX2_looksAtTask_144 ?_
        replace hf := gB1_e hf
        obtain ⟨x20, ex20, hf⟩ := hf
        refine j_iald C (tw_ld hinj ex20) dX2_looksAtTask_147 ?_
        refine j_istore (lv' := [(5, (gi x20)), (4, (gi x10)), (0, (ga (some (ad 0)))), (1, (gi x4)), (2, (gi x5)), (3, (gi x6))]) C dX2_looksAtTask_148 (by decide) rfl ?_
        refine j_iload C dX2_looksAtTask_150 rfl ?_
        refine j_aload_n C dX2_looksAtTask_152 rfl ?_
        refine j_iload_n C dX2_looksAtTask_153 rfl ?_
        refine j_iload_n C dX2_looksAtTask_154 rfl ?_
        refine j_iconst (v := (nI 2)) C dX2_looksAtTask_155 (by decide) ?_
        replace hf := gB2_e hf
        obtain ⟨x22, w21, ew21, hf⟩ := hf
        refine j_callV (As := [(gi x4), (gi x5), (gi (nI 2))]) (rest := [(gi x20)]) (v := (some (gi x22))) C (by omega) (kt_X2_nodePart hinj (by omega) ew21) (tw_cls hinj) rfl q1812 q1814 qs60 q93 q1815 ⟨rfl, hd_X2_nodePart⟩ (by decide) rfl (Nat.le_of_ble_eq_true rfl) dX2_looksAtTask_156 ?_
        refine j_icmp_le (tgt := 170) C dX2_looksAtTask_159 (by decide) (fun c23 => ?_) (fun c23 => ?_)
        · replace hf := gIf_t hf c23
          refine j_aload_n C dX2_looksAtTask_170 rfl ?_
          refine j_get (v := (ga (some (ad 5)))) C fl_X2_22_2 dX2_looksAtTask_171 (tw_F hinj rfl) ?_
          refine j_iload_n C dX2_looksAtTask_174 rfl ?_
          refine j_iload_n C dX2_looksAtTask_175 rfl ?_
          refine j_iconst (v := (nI 4)) C dX2_looksAtTask_176 (by decide) ?_
          replace hf := gB2_e hf
          obtain ⟨x25, w24, ew24, hf⟩ := hf
          refine j_callS (As := [(gi x4), (gi x5), (gi (nI 4))]) (rest := [(ga (some (ad 5)))]) (v := (some (gi x25))) C (by omega) (kt_X2_at hinj (by omega) ew24) q1801 q1802 q93 q1803 hd_X2_at (by decide) rfl (Nat.le_of_ble_eq_true rfl) dX2_looksAtTask_177 ?_
          refine j_iload C dX2_looksAtTask_180 rfl ?_
          refine j_aload_n C dX2_looksAtTask_182 rfl ?_
          refine j_iload_n C dX2_looksAtTask_183 rfl ?_
          refine j_iload_n C dX2_looksAtTask_184 rfl ?_
          refine j_iconst (v := (nI 3)) C dX2_looksAtTask_185 (by decide) ?_
          replace hf := gB2_e hf
          obtain ⟨x27, w26, ew26, hf⟩ := hf
          refine j_callV (As := [(gi x4), (gi x5), (gi (nI 3))]) (rest := [(gi x10), (gi x25), (ga (some (ad 5)))]) (v := (some (gi x27))) C (by omega) (kt_X2_nodePart hinj (by omega) ew26) (tw_cls hinj) rfl q1812 q1814 qs60 q93 q1815 ⟨rfl, hd_X2_nodePart⟩ (by decide) rfl (Nat.le_of_ble_eq_true rfl) dX2_looksAtTask_186 ?_
          refine j_iconst (v := (nI 1)) C dX2_looksAtTask_189 (by decide) ?_
          refine j_iload C dX2_looksAtTask_190 rfl ?_
          refine j_iconst (v := (nI 1)) C dX2_looksAtTask_192 (by decide) ?_
          refine j_isub C dX2_looksAtTask_193 ?_
          refine j_ishl C dX2_looksAtTask_194 ?_
          refine j_imul C dX2_looksAtTask_195 ?_
          refine j_iadd C dX2_looksAtTask_196 ?_
          replace hf := gB1_e hf
          obtain ⟨w28, ew28, hf⟩ := hf
          refine j_iast C (tw_st hinj ew28) dX2_looksAtTask_197 ?_
          refine j_aload_n C dX2_looksAtTask_198 rfl ?_
          refine j_get (v := (ga (some (ad 5)))) C fl_X2_22_2 dX2_looksAtTask_199 (tw_F hinj rfl) ?_
          refine j_iload_n C dX2_looksAtTask_202 rfl ?_
          refine j_iload_n C dX2_looksAtTask_203 rfl ?_
          refine j_iconst (v := (nI 3)) C dX2_looksAtTask_204 (by decide) ?_
          replace hf := gB2_e hf
          obtain ⟨x30, w29, ew29, hf⟩ := hf
          refine j_callS (As := [(gi x4), (gi x5), (gi (nI 3))]) (rest := [(ga (some (ad 5)))]) (v := (some (gi x30))) C (by omega) (kt_X2_at hinj (by omega) ew29) q1801 q1802 q93 q1803 hd_X2_at (by decide) rfl (Nat.le_of_ble_eq_true rfl) dX2_looksAtTask_205 ?_
          refine j_iconst (v := (-1)) C dX2_looksAtTask_208 (by decide) ?_
          replace hf := gB1_e hf
          obtain ⟨w31, ew31, hf⟩ := hf
          refine j_iast C (tw_st hinj ew31) dX2_looksAtTask_209 ?_
          refine j_goto (tgt := 8) C dX2_looksAtTask_210 (by decide) ?_
          refine j_sub (lv' := [(0, (ga (some (ad 0)))), (1, (gi x4)), (2, (gi x5)), (3, (gi x6))]) (gL_cons rfl (gL_cons rfl (gL_cons rfl (gL_cons rfl (gL_nil))))) ?_
          exact jk7 _ _ _ _ hf
        · replace hf := gIf_f hf c23
          refine j_aload_n C dX2_looksAtTask_162 rfl ?_
          refine j_iload_n C dX2_looksAtTask_163 rfl ?_
          refine j_iload_n C dX2_looksAtTask_164 rfl ?_
          refine j_iconst (v := (nI 3)) C dX2_looksAtTask_165 (by decide) ?_
          replace hf := gB2_e hf
          obtain ⟨x33, w32, ew32, hf⟩ := hf
          refine j_callV (As := [(gi x4), (gi x5), (gi (nI 3))]) (rest := []) (v := (some (gi x33))) C (by omega) (kt_X2_comesTo hinj (by omega) ew32) (tw_cls hinj) rfl q1844 q1846 qs68 q93 q1847 ⟨rfl, hd_X2_comesTo⟩ (by decide) rfl (Nat.le_of_ble_eq_true rfl) dX2_looksAtTask_166 ?_
          obtain ⟨rfl, rfl⟩ := gSome hf
          exact j_iret C hr hw dX2_looksAtTask_169
      · replace hf := gIf_t hf c16
        refine j_aload_n C dX2_looksAtTask_78 rfl ?_
        refine j_iload_n C dX2_looksAtTask_79 rfl ?_
        refine j_iconst (v := (nI 2)) C dX2_looksAtTask_80 (by decide) ?_
        refine j_iload_n C dX2_looksAtTask_81 rfl ?_
        replace hf := gB2_e hf
        obtain ⟨_, w34, ew34, hf⟩ := hf
        refine j_callV (As := [(gi x4), (gi (nI 2)), (gi x6)]) (rest := []) (v := none) C (by omega) (kt_X2_notes hinj (by omega) ew34) (tw_cls hinj) rfl q1828 q1830 qs64 q93 q1831 ⟨rfl, hd_X2_notes⟩ (by decide) rfl (Nat.le_of_ble_eq_true rfl) dX2_looksAtTask_82 ?_
        refine j_aload_n C dX2_looksAtTask_85 rfl ?_
        refine j_get (v := (ga (some (ad 5)))) C fl_X2_22_2 dX2_looksAtTask_86 (tw_F hinj rfl) ?_
        refine j_iload_n C dX2_looksAtTask_89 rfl ?_
        refine j_bipush (v := (nI 6)) C dX2_looksAtTask_90 (by decide) ?_
        replace hf := gB2_e hf
        obtain ⟨x36, w35, ew35, hf⟩ := hf
        refine j_callS (As := [(gi x4), (gi (nI 6))]) (rest := [(ga (some (ad 5)))]) (v := (some (gi x36))) C (by omega) (kt_X2_of hinj (by omega) ew35) q1798 q1799 q93 q1800 hd_X2_of (by decide) rfl (Nat.le_of_ble_eq_true rfl) dX2_looksAtTask_92 ?_
        refine j_dup2 C dX2_looksAtTask_95 ?_
        replace hf := gB1_e hf
        obtain ⟨x37, ex37, hf⟩ := hf
        refine j_iald C (tw_ld hinj ex37) dX2_looksAtTask_96 ?_
        refine j_iconst (v := (nI 1)) C dX2_looksAtTask_97 (by decide) ?_
        refine j_iadd C dX2_looksAtTask_98 ?_
        replace hf := gB1_e hf
        obtain ⟨w38, ew38, hf⟩ := hf
        refine j_iast C (tw_st hinj ew38) dX2_looksAtTask_99 ?_
        refine j_aload_n C dX2_looksAtTask_100 rfl ?_
        refine j_get (v := (ga (some (ad 5)))) C fl_X2_22_2 dX2_looksAtTask_101 (tw_F hinj rfl) ?_
        refine j_iload_n C dX2_looksAtTask_104 rfl ?_
        refine j_iload_n C dX2_looksAtTask_105 rfl ?_
        refine j_iconst (v := (nI 5)) C dX2_looksAtTask_106 (by decide) ?_
        replace hf := gB2_e hf
        obtain ⟨x40, w39, ew39, hf⟩ := hf
        refine j_callS (As := [(gi x4), (gi x5), (gi (nI 5))]) (rest := [(ga (some (ad 5)))]) (v := (some (gi x40))) C (by omega) (kt_X2_at hinj (by omega) ew39) q1801 q1802 q93 q1803 hd_X2_at (by decide) rfl (Nat.le_of_ble_eq_true rfl) dX2_looksAtTask_107 ?_
        refine j_aload_n C dX2_looksAtTask_110 rfl ?_
        refine j_get (v := (ga (some (ad 5)))) C fl_X2_22_2 dX2_looksAtTask_111 (tw_F hinj rfl) ?_
        refine j_iload_n C dX2_looksAtTask_114 rfl ?_
        refine j_bipush (v := (nI 6)) C dX2_looksAtTask_115 (by decide) ?_
        replace hf := gB2_e hf
        obtain ⟨x42, w41, ew41, hf⟩ := hf
        refine j_callS (As := [(gi x4), (gi (nI 6))]) (rest := [(ga (some (ad 5))), (gi x40), (ga (some (ad 5)))]) (v := (some (gi x42))) C (by omega) (kt_X2_of hinj (by omega) ew41) q1798 q1799 q93 q1800 hd_X2_of (by decide) rfl (Nat.le_of_ble_eq_true rfl) dX2_looksAtTask_117 ?_
        replace hf := gB1_e hf
        obtain ⟨x43, ex43, hf⟩ := hf
        refine j_iald C (tw_ld hinj ex43) dX2_looksAtTask_120 ?_
        replace hf := gB1_e hf
        obtain ⟨w44, ew44, hf⟩ := hf
        refine j_iast C (tw_st hinj ew44) dX2_looksAtTask_121 ?_
        refine j_aload_n C dX2_looksAtTask_122 rfl ?_
        refine j_iload_n C dX2_looksAtTask_123 rfl ?_
        refine j_iload_n C dX2_looksAtTask_124 rfl ?_
        refine j_iconst (v := (nI 2)) C dX2_looksAtTask_125 (by decide) ?_
        replace hf := gB2_e hf
        obtain ⟨x46, w45, ew45, hf⟩ := hf
        refine j_callV (As := [(gi x4), (gi x5), (gi (nI 2))]) (rest := []) (v := (some (gi x46))) C (by omega) (kt_X2_comesTo hinj (by omega) ew45) (tw_cls hinj) rfl q1844 q1846 qs68 q93 q1847 ⟨rfl, hd_X2_comesTo⟩ (by decide) rfl (Nat.le_of_ble_eq_true rfl) dX2_looksAtTask_126 ?_
        obtain ⟨rfl, rfl⟩ := gSome hf
        exact j_iret C hr hw dX2_looksAtTask_129
    · replace hf := gIf_f hf c13
      refine j_iconst (v := (nI 1)) C dX2_looksAtTask_68 (by decide) ?_
      obtain ⟨rfl, rfl⟩ := gSome hf
      exact j_iret C hr hw dX2_looksAtTask_69
  · replace hf := gIf_f hf c11
    refine j_aload_n C dX2_looksAtTask_26 rfl ?_
    refine j_get (v := (ga (some (ad 5)))) C fl_X2_22_2 dX2_looksAtTask_27 (tw_F hinj rfl) ?_
    refine j_iload_n C dX2_looksAtTask_30 rfl ?_
    refine j_iload_n C dX2_looksAtTask_31 rfl ?_
    refine j_iconst (v := (nI 4)) C dX2_looksAtTask_32 (by decide) ?_
    replace hf := gB2_e hf
    obtain ⟨x48, w47, ew47, hf⟩ := hf
    refine j_callS (As := [(gi x4), (gi x5), (gi (nI 4))]) (rest := [(ga (some (ad 5)))]) (v := (some (gi x48))) C (by omega) (kt_X2_at hinj (by omega) ew47) q1801 q1802 q93 q1803 hd_X2_at (by decide) rfl (Nat.le_of_ble_eq_true rfl) dX2_looksAtTask_33 ?_
    replace hf := gB1_e hf
    obtain ⟨x49, ex49, hf⟩ := hf
    refine j_iald C (tw_ld hinj ex49) dX2_looksAtTask_36 ?_
    refine j_aload_n C dX2_looksAtTask_37 rfl ?_
    refine j_get (v := (ga (some (ad 5)))) C fl_X2_22_2 dX2_looksAtTask_38 (tw_F hinj rfl) ?_
    refine j_iconst (v := (nI 0)) C dX2_looksAtTask_41 (by decide) ?_
    replace hf := gB1_e hf
    obtain ⟨x50, ex50, hf⟩ := hf
    refine j_iald C (tw_ld hinj ex50) dX2_looksAtTask_42 ?_
    refine j_icmp_le (tgt := 48) C dX2_looksAtTask_43 (by decide) (fun c51 => ?_) (fun c51 => ?_)
    · replace hf := gIf_t hf c51
      refine j_aload_n C dX2_looksAtTask_48 rfl ?_
      refine j_iload_n C dX2_looksAtTask_49 rfl ?_
      refine j_iload_n C dX2_looksAtTask_50 rfl ?_
      replace hf := gB2_e hf
      obtain ⟨_, w52, ew52, hf⟩ := hf
      refine j_callV (As := [(gi x4), (gi x5)]) (rest := []) (v := none) C (by omega) (kt_X2_tries hinj (by omega) ew52) (tw_cls hinj) rfl q1824 q1826 qs63 q93 q1827 ⟨rfl, hd_X2_tries⟩ (by decide) rfl (Nat.le_of_ble_eq_true rfl) dX2_looksAtTask_51 ?_
      refine j_goto (tgt := 8) C dX2_looksAtTask_54 (by decide) ?_
      refine j_sub (lv' := [(0, (ga (some (ad 0)))), (1, (gi x4)), (2, (gi x5)), (3, (gi x6))]) (gL_cons rfl (gL_cons rfl (gL_cons rfl (gL_cons rfl (gL_nil))))) ?_
      exact jk7 _ _ _ _ hf
    · replace hf := gIf_f hf c51
      refine j_iconst (v := (nI 1)) C dX2_looksAtTask_46 (by decide) ?_
      obtain ⟨rfl, rfl⟩ := gSome hf
      exact j_iret C hr hw dX2_looksAtTask_47
def dkwX2_looksAtSignal_4 : List UInt8 := [7, 29, 182, 0, 174, 42, 27, 28, 6, 182, 0, 184, 172, 4, 172]
abbrev dktX2_looksAtSignal_4 : List UInt8 := dkwX2_looksAtSignal_4 ++ []
def dkwX2_looksAtSignal_3 : List UInt8 := [180, 0, 22, 3, 46, 42, 180, 0, 22, 27, 28, 4, 184, 0, 169, 46, 21, 4, 96, 161, 0, 18, 42, 27]
abbrev dktX2_looksAtSignal_3 : List UInt8 := dkwX2_looksAtSignal_3 ++ dktX2_looksAtSignal_4
def dkwX2_looksAtSignal_2 : List UInt8 := [100, 79, 42, 27, 6, 29, 182, 0, 174, 42, 27, 28, 5, 182, 0, 184, 172, 21, 4, 155, 0, 41, 42]
abbrev dktX2_looksAtSignal_2 : List UInt8 := dkwX2_looksAtSignal_2 ++ dktX2_looksAtSignal_3
def dkwX2_looksAtSignal_1 : List UInt8 := [29, 96, 184, 0, 163, 46, 158, 0, 35, 42, 180, 0, 22, 27, 16, 14, 29, 96, 184, 0, 163, 92, 46, 4]
abbrev dktX2_looksAtSignal_1 : List UInt8 := dkwX2_looksAtSignal_1 ++ dktX2_looksAtSignal_2
def dkwX2_looksAtSignal_0 : List UInt8 := [42, 27, 28, 4, 182, 0, 171, 62, 42, 27, 28, 5, 182, 0, 171, 54, 4, 42, 180, 0, 22, 27, 16, 14]
abbrev dktX2_looksAtSignal_0 : List UInt8 := dkwX2_looksAtSignal_0 ++ dktX2_looksAtSignal_1
theorem dksX2_looksAtSignal_0 : cX2_looksAtSignal.data.toList.drop 0 = dktX2_looksAtSignal_0 := by decide +kernel
theorem dksX2_looksAtSignal_1 : cX2_looksAtSignal.data.toList.drop 24 = dktX2_looksAtSignal_1 := dk_seg dksX2_looksAtSignal_0 24 rfl rfl
theorem dksX2_looksAtSignal_2 : cX2_looksAtSignal.data.toList.drop 48 = dktX2_looksAtSignal_2 := dk_seg dksX2_looksAtSignal_1 24 rfl rfl
theorem dksX2_looksAtSignal_3 : cX2_looksAtSignal.data.toList.drop 71 = dktX2_looksAtSignal_3 := dk_seg dksX2_looksAtSignal_2 23 rfl rfl
theorem dksX2_looksAtSignal_4 : cX2_looksAtSignal.data.toList.drop 95 = dktX2_looksAtSignal_4 := dk_seg dksX2_looksAtSignal_3 24 rfl rfl
theorem dX2_looksAtSignal_0 : decode cX2_looksAtSignal 0 = .ok (.aload_n 0, 1) := dk_42 (dk_at dksX2_looksAtSignal_0 0 rfl rfl)
theorem dX2_looksAtSignal_1 : decode cX2_looksAtSignal 1 = .ok (.iload_n 1, 1) := dk_27 (dk_at dksX2_looksAtSignal_0 1 rfl rfl)
theorem dX2_looksAtSignal_2 : decode cX2_looksAtSignal 2 = .ok (.iload_n 2, 1) := dk_28 (dk_at dksX2_looksAtSignal_0 2 rfl rfl)
theorem dX2_looksAtSignal_3 : decode cX2_looksAtSignal 3 = .ok (.iconst 1, 1) := dk_4 (dk_at dksX2_looksAtSignal_0 3 rfl rfl)
theorem dX2_looksAtSignal_4 : decode cX2_looksAtSignal 4 = .ok (.invokevirtual 171, 3) := dk_182 0 171 (dk_at dksX2_looksAtSignal_0 4 rfl rfl)
theorem dX2_looksAtSignal_7 : decode cX2_looksAtSignal 7 = .ok (.istore_n 3, 1) := dk_62 (dk_at dksX2_looksAtSignal_0 7 rfl rfl)
theorem dX2_looksAtSignal_8 : decode cX2_looksAtSignal 8 = .ok (.aload_n 0, 1) := dk_42 (dk_at dksX2_looksAtSignal_0 8 rfl rfl)
theorem dX2_looksAtSignal_9 : decode cX2_looksAtSignal 9 = .ok (.iload_n 1, 1) := dk_27 (dk_at dksX2_looksAtSignal_0 9 rfl rfl)
theorem dX2_looksAtSignal_10 : decode cX2_looksAtSignal 10 = .ok (.iload_n 2, 1) := dk_28 (dk_at dksX2_looksAtSignal_0 10 rfl rfl)
theorem dX2_looksAtSignal_11 : decode cX2_looksAtSignal 11 = .ok (.iconst 2, 1) := dk_5 (dk_at dksX2_looksAtSignal_0 11 rfl rfl)
theorem dX2_looksAtSignal_12 : decode cX2_looksAtSignal 12 = .ok (.invokevirtual 171, 3) := dk_182 0 171 (dk_at dksX2_looksAtSignal_0 12 rfl rfl)
theorem dX2_looksAtSignal_15 : decode cX2_looksAtSignal 15 = .ok (.istore 4, 2) := dk_54 4 (dk_at dksX2_looksAtSignal_0 15 rfl rfl)
theorem dX2_looksAtSignal_17 : decode cX2_looksAtSignal 17 = .ok (.aload_n 0, 1) := dk_42 (dk_at dksX2_looksAtSignal_0 17 rfl rfl)
theorem dX2_looksAtSignal_18 : decode cX2_looksAtSignal 18 = .ok (.getfield 22, 3) := dk_180 0 22 (dk_at dksX2_looksAtSignal_0 18 rfl rfl)
theorem dX2_looksAtSignal_21 : decode cX2_looksAtSignal 21 = .ok (.iload_n 1, 1) := dk_27 (dk_at dksX2_looksAtSignal_0 21 rfl rfl)
theorem dX2_looksAtSignal_22 : decode cX2_looksAtSignal 22 = .ok (.bipush 14, 2) := dk_16 14 (dk_at dksX2_looksAtSignal_0 22 rfl rfl)
theorem dX2_looksAtSignal_24 : decode cX2_looksAtSignal 24 = .ok (.iload_n 3, 1) := dk_29 (dk_at dksX2_looksAtSignal_1 0 rfl rfl)
theorem dX2_looksAtSignal_25 : decode cX2_looksAtSignal 25 = .ok (.iadd, 1) := dk_96 (dk_at dksX2_looksAtSignal_1 1 rfl rfl)
theorem dX2_looksAtSignal_26 : decode cX2_looksAtSignal 26 = .ok (.invokestatic 163, 3) := dk_184 0 163 (dk_at dksX2_looksAtSignal_1 2 rfl rfl)
theorem dX2_looksAtSignal_29 : decode cX2_looksAtSignal 29 = .ok (.iaload, 1) := dk_46 (dk_at dksX2_looksAtSignal_1 5 rfl rfl)
theorem dX2_looksAtSignal_30 : decode cX2_looksAtSignal 30 = .ok (.ifCond .le 35, 3) := dk_158 0 35 (dk_at dksX2_looksAtSignal_1 6 rfl rfl)
theorem dX2_looksAtSignal_33 : decode cX2_looksAtSignal 33 = .ok (.aload_n 0, 1) := dk_42 (dk_at dksX2_looksAtSignal_1 9 rfl rfl)
theorem dX2_looksAtSignal_34 : decode cX2_looksAtSignal 34 = .ok (.getfield 22, 3) := dk_180 0 22 (dk_at dksX2_looksAtSignal_1 10 rfl rfl)
theorem dX2_looksAtSignal_37 : decode cX2_looksAtSignal 37 = .ok (.iload_n 1, 1) := dk_27 (dk_at dksX2_looksAtSignal_1 13 rfl rfl)
theorem dX2_looksAtSignal_38 : decode cX2_looksAtSignal 38 = .ok (.bipush 14, 2) := dk_16 14 (dk_at dksX2_looksAtSignal_1 14 rfl rfl)
theorem dX2_looksAtSignal_40 : decode cX2_looksAtSignal 40 = .ok (.iload_n 3, 1) := dk_29 (dk_at dksX2_looksAtSignal_1 16 rfl rfl)
theorem dX2_looksAtSignal_41 : decode cX2_looksAtSignal 41 = .ok (.iadd, 1) := dk_96 (dk_at dksX2_looksAtSignal_1 17 rfl rfl)
theorem dX2_looksAtSignal_42 : decode cX2_looksAtSignal 42 = .ok (.invokestatic 163, 3) := dk_184 0 163 (dk_at dksX2_looksAtSignal_1 18 rfl rfl)
theorem dX2_looksAtSignal_45 : decode cX2_looksAtSignal 45 = .ok (.dup2, 1) := dk_92 (dk_at dksX2_looksAtSignal_1 21 rfl rfl)
theorem dX2_looksAtSignal_46 : decode cX2_looksAtSignal 46 = .ok (.iaload, 1) := dk_46 (dk_at dksX2_looksAtSignal_1 22 rfl rfl)
theorem dX2_looksAtSignal_47 : decode cX2_looksAtSignal 47 = .ok (.iconst 1, 1) := dk_4 (dk_at dksX2_looksAtSignal_1 23 rfl rfl)
theorem dX2_looksAtSignal_48 : decode cX2_looksAtSignal 48 = .ok (.isub, 1) := dk_100 (dk_at dksX2_looksAtSignal_2 0 rfl rfl)
theorem dX2_looksAtSignal_49 : decode cX2_looksAtSignal 49 = .ok (.iastore, 1) := dk_79 (dk_at dksX2_looksAtSignal_2 1 rfl rfl)
theorem dX2_looksAtSignal_50 : decode cX2_looksAtSignal 50 = .ok (.aload_n 0, 1) := dk_42 (dk_at dksX2_looksAtSignal_2 2 rfl rfl)
theorem dX2_looksAtSignal_51 : decode cX2_looksAtSignal 51 = .ok (.iload_n 1, 1) := dk_27 (dk_at dksX2_looksAtSignal_2 3 rfl rfl)
theorem dX2_looksAtSignal_52 : decode cX2_looksAtSignal 52 = .ok (.iconst 3, 1) := dk_6 (dk_at dksX2_looksAtSignal_2 4 rfl rfl)
theorem dX2_looksAtSignal_53 : decode cX2_looksAtSignal 53 = .ok (.iload_n 3, 1) := dk_29 (dk_at dksX2_looksAtSignal_2 5 rfl rfl)
theorem dX2_looksAtSignal_54 : decode cX2_looksAtSignal 54 = .ok (.invokevirtual 174, 3) := dk_182 0 174 (dk_at dksX2_looksAtSignal_2 6 rfl rfl)
theorem dX2_looksAtSignal_57 : decode cX2_looksAtSignal 57 = .ok (.aload_n 0, 1) := dk_42 (dk_at dksX2_looksAtSignal_2 9 rfl rfl)
theorem dX2_looksAtSignal_58 : decode cX2_looksAtSignal 58 = .ok (.iload_n 1, 1) := dk_27 (dk_at dksX2_looksAtSignal_2 10 rfl rfl)
theorem dX2_looksAtSignal_59 : decode cX2_looksAtSignal 59 = .ok (.iload_n 2, 1) := dk_28 (dk_at dksX2_looksAtSignal_2 11 rfl rfl)
theorem dX2_looksAtSignal_60 : decode cX2_looksAtSignal 60 = .ok (.iconst 2, 1) := dk_5 (dk_at dksX2_looksAtSignal_2 12 rfl rfl)
theorem dX2_looksAtSignal_61 : decode cX2_looksAtSignal 61 = .ok (.invokevirtual 184, 3) := dk_182 0 184 (dk_at dksX2_looksAtSignal_2 13 rfl rfl)
theorem dX2_looksAtSignal_64 : decode cX2_looksAtSignal 64 = .ok (.ireturn, 1) := dk_172 (dk_at dksX2_looksAtSignal_2 16 rfl rfl)
theorem dX2_looksAtSignal_65 : decode cX2_looksAtSignal 65 = .ok (.iload 4, 2) := dk_21 4 (dk_at dksX2_looksAtSignal_2 17 rfl rfl)
theorem dX2_looksAtSignal_67 : decode cX2_looksAtSignal 67 = .ok (.ifCond .lt 41, 3) := dk_155 0 41 (dk_at dksX2_looksAtSignal_2 19 rfl rfl)
theorem dX2_looksAtSignal_70 : decode cX2_looksAtSignal 70 = .ok (.aload_n 0, 1) := dk_42 (dk_at dksX2_looksAtSignal_2 22 rfl rfl)
theorem dX2_looksAtSignal_71 : decode cX2_looksAtSignal 71 = .ok (.getfield 22, 3) := dk_180 0 22 (dk_at dksX2_looksAtSignal_3 0 rfl rfl)
theorem dX2_looksAtSignal_74 : decode cX2_looksAtSignal 74 = .ok (.iconst 0, 1) := dk_3 (dk_at dksX2_looksAtSignal_3 3 rfl rfl)
theorem dX2_looksAtSignal_75 : decode cX2_looksAtSignal 75 = .ok (.iaload, 1) := dk_46 (dk_at dksX2_looksAtSignal_3 4 rfl rfl)
theorem dX2_looksAtSignal_76 : decode cX2_looksAtSignal 76 = .ok (.aload_n 0, 1) := dk_42 (dk_at dksX2_looksAtSignal_3 5 rfl rfl)
theorem dX2_looksAtSignal_77 : decode cX2_looksAtSignal 77 = .ok (.getfield 22, 3) := dk_180 0 22 (dk_at dksX2_looksAtSignal_3 6 rfl rfl)
theorem dX2_looksAtSignal_80 : decode cX2_looksAtSignal 80 = .ok (.iload_n 1, 1) := dk_27 (dk_at dksX2_looksAtSignal_3 9 rfl rfl)
theorem dX2_looksAtSignal_81 : decode cX2_looksAtSignal 81 = .ok (.iload_n 2, 1) := dk_28 (dk_at dksX2_looksAtSignal_3 10 rfl rfl)
theorem dX2_looksAtSignal_82 : decode cX2_looksAtSignal 82 = .ok (.iconst 1, 1) := dk_4 (dk_at dksX2_looksAtSignal_3 11 rfl rfl)
theorem dX2_looksAtSignal_83 : decode cX2_looksAtSignal 83 = .ok (.invokestatic 169, 3) := dk_184 0 169 (dk_at dksX2_looksAtSignal_3 12 rfl rfl)
theorem dX2_looksAtSignal_86 : decode cX2_looksAtSignal 86 = .ok (.iaload, 1) := dk_46 (dk_at dksX2_looksAtSignal_3 15 rfl rfl)
theorem dX2_looksAtSignal_87 : decode cX2_looksAtSignal 87 = .ok (.iload 4, 2) := dk_21 4 (dk_at dksX2_looksAtSignal_3 16 rfl rfl)
theorem dX2_looksAtSignal_89 : decode cX2_looksAtSignal 89 = .ok (.iadd, 1) := dk_96 (dk_at dksX2_looksAtSignal_3 18 rfl rfl)
theorem dX2_looksAtSignal_90 : decode cX2_looksAtSignal 90 = .ok (.if_icmp .lt 18, 3) := dk_161 0 18 (dk_at dksX2_looksAtSignal_3 19 rfl rfl)
theorem dX2_looksAtSignal_93 : decode cX2_looksAtSignal 93 = .ok (.aload_n 0, 1) := dk_42 (dk_at dksX2_looksAtSignal_3 22 rfl rfl)
theorem dX2_looksAtSignal_94 : decode cX2_looksAtSignal 94 = .ok (.iload_n 1, 1) := dk_27 (dk_at dksX2_looksAtSignal_3 23 rfl rfl)
theorem dX2_looksAtSignal_95 : decode cX2_looksAtSignal 95 = .ok (.iconst 4, 1) := dk_7 (dk_at dksX2_looksAtSignal_4 0 rfl rfl)
theorem dX2_looksAtSignal_96 : decode cX2_looksAtSignal 96 = .ok (.iload_n 3, 1) := dk_29 (dk_at dksX2_looksAtSignal_4 1 rfl rfl)
theorem dX2_looksAtSignal_97 : decode cX2_looksAtSignal 97 = .ok (.invokevirtual 174, 3) := dk_182 0 174 (dk_at dksX2_looksAtSignal_4 2 rfl rfl)
theorem dX2_looksAtSignal_100 : decode cX2_looksAtSignal 100 = .ok (.aload_n 0, 1) := dk_42 (dk_at dksX2_looksAtSignal_4 5 rfl rfl)
theorem dX2_looksAtSignal_101 : decode cX2_looksAtSignal 101 = .ok (.iload_n 1, 1) := dk_27 (dk_at dksX2_looksAtSignal_4 6 rfl rfl)
theorem dX2_looksAtSignal_102 : decode cX2_looksAtSignal 102 = .ok (.iload_n 2, 1) := dk_28 (dk_at dksX2_looksAtSignal_4 7 rfl rfl)
theorem dX2_looksAtSignal_103 : decode cX2_looksAtSignal 103 = .ok (.iconst 3, 1) := dk_6 (dk_at dksX2_looksAtSignal_4 8 rfl rfl)
theorem dX2_looksAtSignal_104 : decode cX2_looksAtSignal 104 = .ok (.invokevirtual 184, 3) := dk_182 0 184 (dk_at dksX2_looksAtSignal_4 9 rfl rfl)
theorem dX2_looksAtSignal_107 : decode cX2_looksAtSignal 107 = .ok (.ireturn, 1) := dk_172 (dk_at dksX2_looksAtSignal_4 12 rfl rfl)
theorem dX2_looksAtSignal_108 : decode cX2_looksAtSignal 108 = .ok (.iconst 1, 1) := dk_4 (dk_at dksX2_looksAtSignal_4 13 rfl rfl)
theorem dX2_looksAtSignal_109 : decode cX2_looksAtSignal 109 = .ok (.ireturn, 1) := dk_172 (dk_at dksX2_looksAtSignal_4 14 rfl rfl)
def t_X2_looksAtSignal (p1 : Int32) (p2 : Int32) (w0 : TS) : Option (Int32 × TS) := gB2 (t_X2_nodePart p1 p2 (nI 1) w0) fun x2 w1 => gB2 (t_X2_nodePart p1 p2 (nI 2) w1) fun x4 w3 => gB2 (t_X2_of p1 ((nI 14) + x2) w3) fun x6 w5 => gB1 (tLd w5 5 x6) fun x7 => if x7 ≤ 0 then if x4 < 0 then some ((nI 1), w5) else gB1 (tLd w5 5 (nI 0)) fun x10 => gB2 (t_X2_at p1 p2 (nI 1) w5) fun x12 w11 => gB1 (tLd w11 5 x12) fun x13 => if x10 < (x13 + x4) then some ((nI 1), w11) else gB2 (t_X2_notes p1 (nI 4) x2 w11) fun _ w15 => gB2 (t_X2_comesTo p1 p2 (nI 3) w15) fun x17 w16 => some (x17, w16) else gB2 (t_X2_of p1 ((nI 14) + x2) w5) fun x19 w18 => gB1 (tLd w18 5 x19) fun x20 => gB1 (tSt w18 5 x19 (x20 - (nI 1))) fun w21 => gB2 (t_X2_notes p1 (nI 3) x2 w21) fun _ w22 => gB2 (t_X2_comesTo p1 p2 (nI 2) w22) fun x24 w23 => some (x24, w23)
set_option maxHeartbeats 4000000 in
set_option maxRecDepth 100000 in
theorem kt_X2_looksAtSignal {D : va_G} {dA : Nat → ClassId} {A : Nat → Prop} {K : Nat → Nat} {l : Launch} {wb : gw} {ad : Nat → Nat} (hinj : tInj ad) {h : Nat} (hh : 3 ≤ h) {p1 : Int32} {p2 : Int32} {w0 ww : TS} {rr : Int32} (hf : t_X2_looksAtSignal p1 p2 w0 = some (rr, ww)) : gMet D dA A K l yX2_looksAtSignal (ws_ yX2_looksAtSignal cX2_looksAtSignal 5 (some .int)) h [(ga (some (ad 0))), (gi p1), (gi p2)] (some (gi rr)) (twOf wb ad w0) (twOf wb ad ww) := by
  refine j_start (own := RX2) (by decide +kernel) rfl (Nat.le_of_ble_eq_true rfl) ?_
  intro p e R s m args below meth c C hr hin hw
  unfold t_X2_looksAtSignal at hf
  show gJ D dA A K p l e R s m args below meth c (gEnd D dA A K below args s (twOf wb ad w0) (some (gi rr)) (twOf wb ad ww)) 5 0 [(0, (ga (some (ad 0)))), (1, (gi p1)), (2, (gi p2))] [] (twOf wb ad w0)
  refine j_aload_n C dX2_looksAtSignal_0 rfl ?_
  refine j_iload_n C dX2_looksAtSignal_1 rfl ?_
  refine j_iload_n C dX2_looksAtSignal_2 rfl ?_
  refine j_iconst (v := (nI 1)) C dX2_looksAtSignal_3 (by decide) ?_
  replace hf := gB2_e hf
  obtain ⟨x2, w1, ew1, hf⟩ := hf
  refine j_callV (As := [(gi p1), (gi p2), (gi (nI 1))]) (rest := []) (v := (some (gi x2))) C (by omega) (kt_X2_nodePart hinj (by omega) ew1) (tw_cls hinj) rfl q1812 q1814 qs60 q93 q1815 ⟨rfl, hd_X2_nodePart⟩ (by decide) rfl (Nat.le_of_ble_eq_true rfl) dX2_looksAtSignal_4 ?_
  refine j_istore_n (lv' := [(3, (gi x2)), (0, (ga (some (ad 0)))), (1, (gi p1)), (2, (gi p2))]) C dX2_looksAtSignal_7 (by decide) rfl ?_
  refine j_aload_n C dX2_looksAtSignal_8 rfl ?_
  refine j_iload_n C dX2_looksAtSignal_9 rfl ?_
  refine j_iload_n C dX2_looksAtSignal_10 rfl ?_
  refine j_iconst (v := (nI 2)) C dX2_looksAtSignal_11 (by decide) ?_
  replace hf := gB2_e hf
  obtain ⟨x4, w3, ew3, hf⟩ := hf
  refine j_callV (As := [(gi p1), (gi p2), (gi (nI 2))]) (rest := []) (v := (some (gi x4))) C (by omega) (kt_X2_nodePart hinj (by omega) ew3) (tw_cls hinj) rfl q1812 q1814 qs60 q93 q1815 ⟨rfl, hd_X2_nodePart⟩ (by decide) rfl (Nat.le_of_ble_eq_true rfl) dX2_looksAtSignal_12 ?_
  refine j_istore (lv' := [(4, (gi x4)), (3, (gi x2)), (0, (ga (some (ad 0)))), (1, (gi p1)), (2, (gi p2))]) C dX2_looksAtSignal_15 (by decide) rfl ?_
  refine j_aload_n C dX2_looksAtSignal_17 rfl ?_
  refine j_get (v := (ga (some (ad 5)))) C fl_X2_22_2 dX2_looksAtSignal_18 (tw_F hinj rfl) ?_
  refine j_iload_n C dX2_looksAtSignal_21 rfl ?_
  refine j_bipush (v := (nI 14)) C dX2_looksAtSignal_22 (by decide) ?_
  refine j_iload_n C dX2_looksAtSignal_24 rfl ?_
  refine j_iadd C dX2_looksAtSignal_25 ?_
  replace hf := gB2_e hf
  obtain ⟨x6, w5, ew5, hf⟩ := hf
  refine j_callS (As := [(gi p1), (gi ((nI 14) + x2))]) (rest := [(ga (some (ad 5)))]) (v := (some (gi x6))) C (by omega) (kt_X2_of hinj (by omega) ew5) q1798 q1799 q93 q1800 hd_X2_of (by decide) rfl (Nat.le_of_ble_eq_true rfl) dX2_looksAtSignal_26 ?_
  replace hf := gB1_e hf
  obtain ⟨x7, ex7, hf⟩ := hf
  refine j_iald C (tw_ld hinj ex7) dX2_looksAtSignal_29 ?_
  refine j_if_le (tgt := 65) C dX2_looksAtSignal_30 (by decide) (fun c8 => ?_) (fun c8 => ?_)
  · replace hf := gIf_t hf c8
    refine j_iload C dX2_looksAtSignal_65 rfl ?_
    refine j_if_lt (tgt := 108) C dX2_looksAtSignal_67 (by decide) (fun c9 => ?_) (fun c9 => ?_)
    · replace hf := gIf_t hf c9
      refine j_iconst (v := (nI 1)) C dX2_looksAtSignal_108 (by decide) ?_
      obtain ⟨rfl, rfl⟩ := gSome hf
      exact j_iret C hr hw dX2_looksAtSignal_109
    · replace hf := gIf_f hf c9
      refine j_aload_n C dX2_looksAtSignal_70 rfl ?_
      refine j_get (v := (ga (some (ad 5)))) C fl_X2_22_2 dX2_looksAtSignal_71 (tw_F hinj rfl) ?_
      refine j_iconst (v := (nI 0)) C dX2_looksAtSignal_74 (by decide) ?_
      replace hf := gB1_e hf
      obtain ⟨x10, ex10, hf⟩ := hf
      refine j_iald C (tw_ld hinj ex10) dX2_looksAtSignal_75 ?_
      refine j_aload_n C dX2_looksAtSignal_76 rfl ?_
      refine j_get (v := (ga (some (ad 5)))) C fl_X2_22_2 dX2_looksAtSignal_77 (tw_F hinj rfl) ?_
      refine j_iload_n C dX2_looksAtSignal_80 rfl ?_
      refine j_iload_n C dX2_looksAtSignal_81 rfl ?_
      refine j_iconst (v := (nI 1)) C dX2_looksAtSignal_82 (by decide) ?_
      replace hf := gB2_e hf
      obtain ⟨x12, w11, ew11, hf⟩ := hf
      refine j_callS (As := [(gi p1), (gi p2), (gi (nI 1))]) (rest := [(ga (some (ad 5))), (gi x10)]) (v := (some (gi x12))) C (by omega) (kt_X2_at hinj (by omega) ew11) q1801 q1802 q93 q1803 hd_X2_at (by decide) rfl (Nat.le_of_ble_eq_true rfl) dX2_looksAtSignal_83 ?_
      replace hf := gB1_e hf
      obtain ⟨x13, ex13, hf⟩ := hf
      refine j_iald C (tw_ld hinj ex13) dX2_looksAtSignal_86 ?_
      refine j_iload C dX2_looksAtSignal_87 rfl ?_
      refine j_iadd C dX2_looksAtSignal_89 ?_
      refine j_icmp_lt (tgt := 108) C dX2_looksAtSignal_90 (by decide) (fun c14 => ?_) (fun c14 => ?_)
      · replace hf := gIf_t hf c14
        refine j_iconst (v := (nI 1)) C dX2_looksAtSignal_108 (by decide) ?_
        obtain ⟨rfl, rfl⟩ := gSome hf
        exact j_iret C hr hw dX2_looksAtSignal_109
      · replace hf := gIf_f hf c14
        refine j_aload_n C dX2_looksAtSignal_93 rfl ?_
        refine j_iload_n C dX2_looksAtSignal_94 rfl ?_
        refine j_iconst (v := (nI 4)) C dX2_looksAtSignal_95 (by decide) ?_
        refine j_iload_n C dX2_looksAtSignal_96 rfl ?_
        replace hf := gB2_e hf
        obtain ⟨_, w15, ew15, hf⟩ := hf
        refine j_callV (As := [(gi p1), (gi (nI 4)), (gi x2)]) (rest := []) (v := none) C (by omega) (kt_X2_notes hinj (by omega) ew15) (tw_cls hinj) rfl q1828 q1830 qs64 q93 q1831 ⟨rfl, hd_X2_notes⟩ (by decide) rfl (Nat.le_of_ble_eq_true rfl) dX2_looksAtSignal_97 ?_
        refine j_aload_n C dX2_looksAtSignal_100 rfl ?_
        refine j_iload_n C dX2_looksAtSignal_101 rfl ?_
        refine j_iload_n C dX2_looksAtSignal_102 rfl ?_
        refine j_iconst (v := (nI 3)) C dX2_looksAtSignal_103 (by decide) ?_
        replace hf := gB2_e hf
        obtain ⟨x17, w16, ew16, hf⟩ := hf
        refine j_callV (As := [(gi p1), (gi p2), (gi (nI 3))]) (rest := []) (v := (some (gi x17))) C (by omega) (kt_X2_comesTo hinj (by omega) ew16) (tw_cls hinj) rfl q1844 q1846 qs68 q93 q1847 ⟨rfl, hd_X2_comesTo⟩ (by decide) rfl (Nat.le_of_ble_eq_true rfl) dX2_looksAtSignal_104 ?_
        obtain ⟨rfl, rfl⟩ := gSome hf
        exact j_iret C hr hw dX2_looksAtSignal_107
  · replace hf := gIf_f hf c8
    refine j_aload_n C dX2_looksAtSignal_33 rfl ?_
    refine j_get (v := (ga (some (ad 5)))) C fl_X2_22_2 dX2_looksAtSignal_34 (tw_F hinj rfl) ?_
    refine j_iload_n C dX2_looksAtSignal_37 rfl ?_
    refine j_bipush (v := (nI 14)) C dX2_looksAtSignal_38 (by decide) ?_
    refine j_iload_n C dX2_looksAtSignal_40 rfl ?_
    refine j_iadd C dX2_looksAtSignal_41 ?_
    replace hf := gB2_e hf
    obtain ⟨x19, w18, ew18, hf⟩ := hf
    refine j_callS (As := [(gi p1), (gi ((nI 14) + x2))]) (rest := [(ga (some (ad 5)))]) (v := (some (gi x19))) C (by omega) (kt_X2_of hinj (by omega) ew18) q1798 q1799 q93 q1800 hd_X2_of (by decide) rfl (Nat.le_of_ble_eq_true rfl) dX2_looksAtSignal_42 ?_
    refine j_dup2 C dX2_looksAtSignal_45 ?_
    replace hf := gB1_e hf
    obtain ⟨x20, ex20, hf⟩ := hf
    refine j_iald C (tw_ld hinj ex20) dX2_looksAtSignal_46 ?_
    refine j_iconst (v := (nI 1)) C dX2_looksAtSignal_47 (by decide) ?_
    refine j_isub C dX2_looksAtSignal_48 ?_
    replace hf := gB1_e hf
    obtain ⟨w21, ew21, hf⟩ := hf
    refine j_iast C (tw_st hinj ew21) dX2_looksAtSignal_49 ?_
    refine j_aload_n C dX2_looksAtSignal_50 rfl ?_
    refine j_iload_n C dX2_looksAtSignal_51 rfl ?_
    refine j_iconst (v := (nI 3)) C dX2_looksAtSignal_52 (by decide) ?_
    refine j_iload_n C dX2_looksAtSignal_53 rfl ?_
    replace hf := gB2_e hf
    obtain ⟨_, w22, ew22, hf⟩ := hf
    refine j_callV (As := [(gi p1), (gi (nI 3)), (gi x2)]) (rest := []) (v := none) C (by omega) (kt_X2_notes hinj (by omega) ew22) (tw_cls hinj) rfl q1828 q1830 qs64 q93 q1831 ⟨rfl, hd_X2_notes⟩ (by decide) rfl (Nat.le_of_ble_eq_true rfl) dX2_looksAtSignal_54 ?_
    refine j_aload_n C dX2_looksAtSignal_57 rfl ?_
    refine j_iload_n C dX2_looksAtSignal_58 rfl ?_
    refine j_iload_n C dX2_looksAtSignal_59 rfl ?_
    refine j_iconst (v := (nI 2)) C dX2_looksAtSignal_60 (by decide) ?_
    replace hf := gB2_e hf
    obtain ⟨x24, w23, ew23, hf⟩ := hf
    refine j_callV (As := [(gi p1), (gi p2), (gi (nI 2))]) (rest := []) (v := (some (gi x24))) C (by omega) (kt_X2_comesTo hinj (by omega) ew23) (tw_cls hinj) rfl q1844 q1846 qs68 q93 q1847 ⟨rfl, hd_X2_comesTo⟩ (by decide) rfl (Nat.le_of_ble_eq_true rfl) dX2_looksAtSignal_61 ?_
    obtain ⟨rfl, rfl⟩ := gSome hf
    exact j_iret C hr hw dX2_looksAtSignal_64
def dkwX2_sets_3 : List UInt8 := [27, 28, 5, 182, 0, 184, 172]
abbrev dktX2_sets_3 : List UInt8 := dkwX2_sets_3 ++ []
def dkwX2_sets_2 : List UInt8 := [180, 0, 22, 21, 5, 46, 21, 4, 96, 167, 0, 5, 21, 4, 79, 42, 27, 16, 8, 29, 182, 0, 174, 42]
abbrev dktX2_sets_2 : List UInt8 := dkwX2_sets_2 ++ dktX2_sets_3
def dkwX2_sets_1 : List UInt8 := [184, 0, 163, 54, 5, 42, 180, 0, 22, 21, 5, 42, 27, 28, 5, 182, 0, 171, 4, 160, 0, 16, 42]
abbrev dktX2_sets_1 : List UInt8 := dkwX2_sets_1 ++ dktX2_sets_2
def dkwX2_sets_0 : List UInt8 := [42, 27, 28, 4, 182, 0, 171, 62, 42, 27, 28, 6, 182, 0, 171, 54, 4, 27, 16, 10, 29, 96]
abbrev dktX2_sets_0 : List UInt8 := dkwX2_sets_0 ++ dktX2_sets_1
theorem dksX2_sets_0 : cX2_sets.data.toList.drop 0 = dktX2_sets_0 := by decide +kernel
theorem dksX2_sets_1 : cX2_sets.data.toList.drop 22 = dktX2_sets_1 := dk_seg dksX2_sets_0 22 rfl rfl
theorem dksX2_sets_2 : cX2_sets.data.toList.drop 45 = dktX2_sets_2 := dk_seg dksX2_sets_1 23 rfl rfl
theorem dksX2_sets_3 : cX2_sets.data.toList.drop 69 = dktX2_sets_3 := dk_seg dksX2_sets_2 24 rfl rfl
theorem dX2_sets_0 : decode cX2_sets 0 = .ok (.aload_n 0, 1) := dk_42 (dk_at dksX2_sets_0 0 rfl rfl)
theorem dX2_sets_1 : decode cX2_sets 1 = .ok (.iload_n 1, 1) := dk_27 (dk_at dksX2_sets_0 1 rfl rfl)
theorem dX2_sets_2 : decode cX2_sets 2 = .ok (.iload_n 2, 1) := dk_28 (dk_at dksX2_sets_0 2 rfl rfl)
theorem dX2_sets_3 : decode cX2_sets 3 = .ok (.iconst 1, 1) := dk_4 (dk_at dksX2_sets_0 3 rfl rfl)
theorem dX2_sets_4 : decode cX2_sets 4 = .ok (.invokevirtual 171, 3) := dk_182 0 171 (dk_at dksX2_sets_0 4 rfl rfl)
theorem dX2_sets_7 : decode cX2_sets 7 = .ok (.istore_n 3, 1) := dk_62 (dk_at dksX2_sets_0 7 rfl rfl)
theorem dX2_sets_8 : decode cX2_sets 8 = .ok (.aload_n 0, 1) := dk_42 (dk_at dksX2_sets_0 8 rfl rfl)
theorem dX2_sets_9 : decode cX2_sets 9 = .ok (.iload_n 1, 1) := dk_27 (dk_at dksX2_sets_0 9 rfl rfl)
theorem dX2_sets_10 : decode cX2_sets 10 = .ok (.iload_n 2, 1) := dk_28 (dk_at dksX2_sets_0 10 rfl rfl)
theorem dX2_sets_11 : decode cX2_sets 11 = .ok (.iconst 3, 1) := dk_6 (dk_at dksX2_sets_0 11 rfl rfl)
theorem dX2_sets_12 : decode cX2_sets 12 = .ok (.invokevirtual 171, 3) := dk_182 0 171 (dk_at dksX2_sets_0 12 rfl rfl)
theorem dX2_sets_15 : decode cX2_sets 15 = .ok (.istore 4, 2) := dk_54 4 (dk_at dksX2_sets_0 15 rfl rfl)
theorem dX2_sets_17 : decode cX2_sets 17 = .ok (.iload_n 1, 1) := dk_27 (dk_at dksX2_sets_0 17 rfl rfl)
theorem dX2_sets_18 : decode cX2_sets 18 = .ok (.bipush 10, 2) := dk_16 10 (dk_at dksX2_sets_0 18 rfl rfl)
theorem dX2_sets_20 : decode cX2_sets 20 = .ok (.iload_n 3, 1) := dk_29 (dk_at dksX2_sets_0 20 rfl rfl)
theorem dX2_sets_21 : decode cX2_sets 21 = .ok (.iadd, 1) := dk_96 (dk_at dksX2_sets_0 21 rfl rfl)
theorem dX2_sets_22 : decode cX2_sets 22 = .ok (.invokestatic 163, 3) := dk_184 0 163 (dk_at dksX2_sets_1 0 rfl rfl)
theorem dX2_sets_25 : decode cX2_sets 25 = .ok (.istore 5, 2) := dk_54 5 (dk_at dksX2_sets_1 3 rfl rfl)
theorem dX2_sets_27 : decode cX2_sets 27 = .ok (.aload_n 0, 1) := dk_42 (dk_at dksX2_sets_1 5 rfl rfl)
theorem dX2_sets_28 : decode cX2_sets 28 = .ok (.getfield 22, 3) := dk_180 0 22 (dk_at dksX2_sets_1 6 rfl rfl)
theorem dX2_sets_31 : decode cX2_sets 31 = .ok (.iload 5, 2) := dk_21 5 (dk_at dksX2_sets_1 9 rfl rfl)
theorem dX2_sets_33 : decode cX2_sets 33 = .ok (.aload_n 0, 1) := dk_42 (dk_at dksX2_sets_1 11 rfl rfl)
theorem dX2_sets_34 : decode cX2_sets 34 = .ok (.iload_n 1, 1) := dk_27 (dk_at dksX2_sets_1 12 rfl rfl)
theorem dX2_sets_35 : decode cX2_sets 35 = .ok (.iload_n 2, 1) := dk_28 (dk_at dksX2_sets_1 13 rfl rfl)
theorem dX2_sets_36 : decode cX2_sets 36 = .ok (.iconst 2, 1) := dk_5 (dk_at dksX2_sets_1 14 rfl rfl)
theorem dX2_sets_37 : decode cX2_sets 37 = .ok (.invokevirtual 171, 3) := dk_182 0 171 (dk_at dksX2_sets_1 15 rfl rfl)
theorem dX2_sets_40 : decode cX2_sets 40 = .ok (.iconst 1, 1) := dk_4 (dk_at dksX2_sets_1 18 rfl rfl)
theorem dX2_sets_41 : decode cX2_sets 41 = .ok (.if_icmp .ne 16, 3) := dk_160 0 16 (dk_at dksX2_sets_1 19 rfl rfl)
theorem dX2_sets_44 : decode cX2_sets 44 = .ok (.aload_n 0, 1) := dk_42 (dk_at dksX2_sets_1 22 rfl rfl)
theorem dX2_sets_45 : decode cX2_sets 45 = .ok (.getfield 22, 3) := dk_180 0 22 (dk_at dksX2_sets_2 0 rfl rfl)
theorem dX2_sets_48 : decode cX2_sets 48 = .ok (.iload 5, 2) := dk_21 5 (dk_at dksX2_sets_2 3 rfl rfl)
theorem dX2_sets_50 : decode cX2_sets 50 = .ok (.iaload, 1) := dk_46 (dk_at dksX2_sets_2 5 rfl rfl)
theorem dX2_sets_51 : decode cX2_sets 51 = .ok (.iload 4, 2) := dk_21 4 (dk_at dksX2_sets_2 6 rfl rfl)
theorem dX2_sets_53 : decode cX2_sets 53 = .ok (.iadd, 1) := dk_96 (dk_at dksX2_sets_2 8 rfl rfl)
theorem dX2_sets_54 : decode cX2_sets 54 = .ok (.goto 5, 3) := dk_167 0 5 (dk_at dksX2_sets_2 9 rfl rfl)
theorem dX2_sets_57 : decode cX2_sets 57 = .ok (.iload 4, 2) := dk_21 4 (dk_at dksX2_sets_2 12 rfl rfl)
theorem dX2_sets_59 : decode cX2_sets 59 = .ok (.iastore, 1) := dk_79 (dk_at dksX2_sets_2 14 rfl rfl)
theorem dX2_sets_60 : decode cX2_sets 60 = .ok (.aload_n 0, 1) := dk_42 (dk_at dksX2_sets_2 15 rfl rfl)
theorem dX2_sets_61 : decode cX2_sets 61 = .ok (.iload_n 1, 1) := dk_27 (dk_at dksX2_sets_2 16 rfl rfl)
theorem dX2_sets_62 : decode cX2_sets 62 = .ok (.bipush 8, 2) := dk_16 8 (dk_at dksX2_sets_2 17 rfl rfl)
theorem dX2_sets_64 : decode cX2_sets 64 = .ok (.iload_n 3, 1) := dk_29 (dk_at dksX2_sets_2 19 rfl rfl)
theorem dX2_sets_65 : decode cX2_sets 65 = .ok (.invokevirtual 174, 3) := dk_182 0 174 (dk_at dksX2_sets_2 20 rfl rfl)
theorem dX2_sets_68 : decode cX2_sets 68 = .ok (.aload_n 0, 1) := dk_42 (dk_at dksX2_sets_2 23 rfl rfl)
theorem dX2_sets_69 : decode cX2_sets 69 = .ok (.iload_n 1, 1) := dk_27 (dk_at dksX2_sets_3 0 rfl rfl)
theorem dX2_sets_70 : decode cX2_sets 70 = .ok (.iload_n 2, 1) := dk_28 (dk_at dksX2_sets_3 1 rfl rfl)
theorem dX2_sets_71 : decode cX2_sets 71 = .ok (.iconst 2, 1) := dk_5 (dk_at dksX2_sets_3 2 rfl rfl)
theorem dX2_sets_72 : decode cX2_sets 72 = .ok (.invokevirtual 184, 3) := dk_182 0 184 (dk_at dksX2_sets_3 3 rfl rfl)
theorem dX2_sets_75 : decode cX2_sets 75 = .ok (.ireturn, 1) := dk_172 (dk_at dksX2_sets_3 6 rfl rfl)
def t_X2_sets (p1 : Int32) (p2 : Int32) (w0 : TS) : Option (Int32 × TS) := gB2 (t_X2_nodePart p1 p2 (nI 1) w0) fun x2 w1 => gB2 (t_X2_nodePart p1 p2 (nI 3) w1) fun x4 w3 => gB2 (t_X2_of p1 ((nI 10) + x2) w3) fun x6 w5 => gB2 (t_X2_nodePart p1 p2 (nI 2) w5) fun x8 w7 => gBd (fun (x11 : Int32) (x12 : Int32) (x13 : Int32) (r14 : Nat) (x15 : Int32) (x16 : Int32) (w10 : TS) => gB1 (tSt w10 r14 x15 x16) fun w17 => gB2 (t_X2_notes x11 (nI 8) x13 w17) fun _ w18 => gB2 (t_X2_comesTo x11 x12 (nI 2) w18) fun x20 w19 => some (x20, w19)) fun k9 => if x8 = (nI 1) then gB1 (tLd w7 5 x6) fun x22 => k9 p1 p2 x2 5 x6 (x22 + x4) w7 else k9 p1 p2 x2 5 x6 x4 w7
set_option maxHeartbeats 4000000 in
set_option maxRecDepth 100000 in
theorem kt_X2_sets {D : va_G} {dA : Nat → ClassId} {A : Nat → Prop} {K : Nat → Nat} {l : Launch} {wb : gw} {ad : Nat → Nat} (hinj : tInj ad) {h : Nat} (hh : 3 ≤ h) {p1 : Int32} {p2 : Int32} {w0 ww : TS} {rr : Int32} (hf : t_X2_sets p1 p2 w0 = some (rr, ww)) : gMet D dA A K l yX2_sets (ws_ yX2_sets cX2_sets 6 (some .int)) h [(ga (some (ad 0))), (gi p1), (gi p2)] (some (gi rr)) (twOf wb ad w0) (twOf wb ad ww) := by
  refine j_start (own := RX2) (by decide +kernel) rfl (Nat.le_of_ble_eq_true rfl) ?_
  intro p e R s m args below meth c C hr hin hw
  unfold t_X2_sets at hf
  show gJ D dA A K p l e R s m args below meth c (gEnd D dA A K below args s (twOf wb ad w0) (some (gi rr)) (twOf wb ad ww)) 6 0 [(0, (ga (some (ad 0)))), (1, (gi p1)), (2, (gi p2))] [] (twOf wb ad w0)
  refine j_aload_n C dX2_sets_0 rfl ?_
  refine j_iload_n C dX2_sets_1 rfl ?_
  refine j_iload_n C dX2_sets_2 rfl ?_
  refine j_iconst (v := (nI 1)) C dX2_sets_3 (by decide) ?_
  replace hf := gB2_e hf
  obtain ⟨x2, w1, ew1, hf⟩ := hf
  refine j_callV (As := [(gi p1), (gi p2), (gi (nI 1))]) (rest := []) (v := (some (gi x2))) C (by omega) (kt_X2_nodePart hinj (by omega) ew1) (tw_cls hinj) rfl q1812 q1814 qs60 q93 q1815 ⟨rfl, hd_X2_nodePart⟩ (by decide) rfl (Nat.le_of_ble_eq_true rfl) dX2_sets_4 ?_
  refine j_istore_n (lv' := [(3, (gi x2)), (0, (ga (some (ad 0)))), (1, (gi p1)), (2, (gi p2))]) C dX2_sets_7 (by decide) rfl ?_
  refine j_aload_n C dX2_sets_8 rfl ?_
  refine j_iload_n C dX2_sets_9 rfl ?_
  refine j_iload_n C dX2_sets_10 rfl ?_
  refine j_iconst (v := (nI 3)) C dX2_sets_11 (by decide) ?_
  replace hf := gB2_e hf
  obtain ⟨x4, w3, ew3, hf⟩ := hf
  refine j_callV (As := [(gi p1), (gi p2), (gi (nI 3))]) (rest := []) (v := (some (gi x4))) C (by omega) (kt_X2_nodePart hinj (by omega) ew3) (tw_cls hinj) rfl q1812 q1814 qs60 q93 q1815 ⟨rfl, hd_X2_nodePart⟩ (by decide) rfl (Nat.le_of_ble_eq_true rfl) dX2_sets_12 ?_
  refine j_istore (lv' := [(4, (gi x4)), (3, (gi x2)), (0, (ga (some (ad 0)))), (1, (gi p1)), (2, (gi p2))]) C dX2_sets_15 (by decide) rfl ?_
  refine j_iload_n C dX2_sets_17 rfl ?_
  refine j_bipush (v := (nI 10)) C dX2_sets_18 (by decide) ?_
  refine j_iload_n C dX2_sets_20 rfl ?_
  refine j_iadd C dX2_sets_21 ?_
  replace hf := gB2_e hf
  obtain ⟨x6, w5, ew5, hf⟩ := hf
  refine j_callS (As := [(gi p1), (gi ((nI 10) + x2))]) (rest := []) (v := (some (gi x6))) C (by omega) (kt_X2_of hinj (by omega) ew5) q1798 q1799 q93 q1800 hd_X2_of (by decide) rfl (Nat.le_of_ble_eq_true rfl) dX2_sets_22 ?_
  refine j_istore (lv' := [(5, (gi x6)), (4, (gi x4)), (3, (gi x2)), (0, (ga (some (ad 0)))), (1, (gi p1)), (2, (gi p2))]) C dX2_sets_25 (by decide) rfl ?_
  refine j_aload_n C dX2_sets_27 rfl ?_
  refine j_get (v := (ga (some (ad 5)))) C fl_X2_22_2 dX2_sets_28 (tw_F hinj rfl) ?_
  refine j_iload C dX2_sets_31 rfl ?_
  refine j_aload_n C dX2_sets_33 rfl ?_
  refine j_iload_n C dX2_sets_34 rfl ?_
  refine j_iload_n C dX2_sets_35 rfl ?_
  refine j_iconst (v := (nI 2)) C dX2_sets_36 (by decide) ?_
  replace hf := gB2_e hf
  obtain ⟨x8, w7, ew7, hf⟩ := hf
  refine j_callV (As := [(gi p1), (gi p2), (gi (nI 2))]) (rest := [(gi x6), (ga (some (ad 5)))]) (v := (some (gi x8))) C (by omega) (kt_X2_nodePart hinj (by omega) ew7) (tw_cls hinj) rfl q1812 q1814 qs60 q93 q1815 ⟨rfl, hd_X2_nodePart⟩ (by decide) rfl (Nat.le_of_ble_eq_true rfl) dX2_sets_37 ?_
  refine j_iconst (v := (nI 1)) C dX2_sets_40 (by decide) ?_
  replace hf := gBd_x hf
  obtain ⟨k9, ek9, hf⟩ := hf
  have jk9 : ∀ (x11 : Int32) (x12 : Int32) (x13 : Int32) (r14 : Nat) (x15 : Int32) (x16 : Int32) (w10 : TS), k9 x11 x12 x13 r14 x15 x16 w10 = some (rr, ww) → gJ D dA A K p l e R s m args below meth c (gEnd D dA A K below args s (twOf wb ad w0) (some (gi rr)) (twOf wb ad ww)) 6 59 [(0, (ga (some (ad 0)))), (1, (gi x11)), (2, (gi x12)), (3, (gi x13))] [(gi x16), (gi x15), (ga (some (ad r14)))] (twOf wb ad w10) := by
    intro x11 x12 x13 r14 x15 x16 w10 hf
    rw [ek9] at hf
    dsimp only at hf
    replace hf := gB1_e hf
    obtain ⟨w17, ew17, hf⟩ := hf
    refine j_iast C (tw_st hinj ew17) dX2_sets_59 ?_
    refine j_aload_n C dX2_sets_60 rfl ?_
    refine j_iload_n C dX2_sets_61 rfl ?_
    refine j_bipush (v := (nI 8)) C dX2_sets_62 (by decide) ?_
    refine j_iload_n C dX2_sets_64 rfl ?_
    replace hf := gB2_e hf
    obtain ⟨_, w18, ew18, hf⟩ := hf
    refine j_callV (As := [(gi x11), (gi (nI 8)), (gi x13)]) (rest := []) (v := none) C (by omega) (kt_X2_notes hinj (by omega) ew18) (tw_cls hinj) rfl q1828 q1830 qs64 q93 q1831 ⟨rfl, hd_X2_notes⟩ (by decide) rfl (Nat.le_of_ble_eq_true rfl) dX2_sets_65 ?_
    refine j_aload_n C dX2_sets_68 rfl ?_
    refine j_iload_n C dX2_sets_69 rfl ?_
    refine j_iload_n C dX2_sets_70 rfl ?_
    refine j_iconst (v := (nI 2)) C dX2_sets_71 (by decide) ?_
    replace hf := gB2_e hf
    obtain ⟨x20, w19, ew19, hf⟩ := hf
    refine j_callV (As := [(gi x11), (gi x12), (gi (nI 2))]) (rest := []) (v := (some (gi x20))) C (by omega) (kt_X2_comesTo hinj (by omega) ew19) (tw_cls hinj) rfl q1844 q1846 qs68 q93 q1847 ⟨rfl, hd_X2_comesTo⟩ (by decide) rfl (Nat.le_of_ble_eq_true rfl) dX2_sets_72 ?_
    obtain ⟨rfl, rfl⟩ := gSome hf
    exact j_iret C hr hw dX2_sets_75
  clear ek9
  refine j_icmp_ne (tgt := 57) C dX2_sets_41 (by decide) (fun c21 => ?_) (fun c21 => ?_)
  · replace hf := gIf_f hf c21
    refine j_iload C dX2_sets_57 rfl ?_
    refine j_sub (lv' := [(0, (ga (some (ad 0)))), (1, (gi p1)), (2, (gi p2)), (3, (gi x2))]) (gL_cons rfl (gL_cons rfl (gL_cons rfl (gL_cons rfl (gL_nil))))) ?_
    exact jk9 _ _ _ _ _ _ _ hf
  · replace hf := gIf_t hf c21
    refine j_aload_n C dX2_sets_44 rfl ?_
    refine j_get (v := (ga (some (ad 5)))) C fl_X2_22_2 dX2_sets_45 (tw_F hinj rfl) ?_
    refine j_iload C dX2_sets_48 rfl ?_
    replace hf := gB1_e hf
    obtain ⟨x22, ex22, hf⟩ := hf
    refine j_iald C (tw_ld hinj ex22) dX2_sets_50 ?_
    refine j_iload C dX2_sets_51 rfl ?_
    refine j_iadd C dX2_sets_53 ?_
    refine j_goto (tgt := 59) C dX2_sets_54 (by decide) ?_
    refine j_sub (lv' := [(0, (ga (some (ad 0)))), (1, (gi p1)), (2, (gi p2)), (3, (gi x2))]) (gL_cons rfl (gL_cons rfl (gL_cons rfl (gL_cons rfl (gL_nil))))) ?_
    exact jk9 _ _ _ _ _ _ _ hf
def dkwX2_bodiesIn_2 : List UInt8 := [16, 6, 182, 0, 171, 54, 5, 167, 255, 214, 21, 4, 172]
abbrev dktX2_bodiesIn_2 : List UInt8 := dkwX2_bodiesIn_2 ++ []
def dkwX2_bodiesIn_1 : List UInt8 := [21, 5, 3, 184, 0, 169, 46, 29, 160, 0, 7, 4, 167, 0, 4, 3, 96, 54, 4, 42, 27, 21, 5]
abbrev dktX2_bodiesIn_1 : List UInt8 := dkwX2_bodiesIn_1 ++ dktX2_bodiesIn_2
def dkwX2_bodiesIn_0 : List UInt8 := [3, 54, 4, 42, 27, 28, 8, 182, 0, 171, 54, 5, 21, 5, 155, 0, 43, 21, 4, 42, 180, 0, 22, 27]
abbrev dktX2_bodiesIn_0 : List UInt8 := dkwX2_bodiesIn_0 ++ dktX2_bodiesIn_1
theorem dksX2_bodiesIn_0 : cX2_bodiesIn.data.toList.drop 0 = dktX2_bodiesIn_0 := by decide +kernel
theorem dksX2_bodiesIn_1 : cX2_bodiesIn.data.toList.drop 24 = dktX2_bodiesIn_1 := dk_seg dksX2_bodiesIn_0 24 rfl rfl
theorem dksX2_bodiesIn_2 : cX2_bodiesIn.data.toList.drop 47 = dktX2_bodiesIn_2 := dk_seg dksX2_bodiesIn_1 23 rfl rfl
theorem dX2_bodiesIn_0 : decode cX2_bodiesIn 0 = .ok (.iconst 0, 1) := dk_3 (dk_at dksX2_bodiesIn_0 0 rfl rfl)
theorem dX2_bodiesIn_1 : decode cX2_bodiesIn 1 = .ok (.istore 4, 2) := dk_54 4 (dk_at dksX2_bodiesIn_0 1 rfl rfl)
theorem dX2_bodiesIn_3 : decode cX2_bodiesIn 3 = .ok (.aload_n 0, 1) := dk_42 (dk_at dksX2_bodiesIn_0 3 rfl rfl)
theorem dX2_bodiesIn_4 : decode cX2_bodiesIn 4 = .ok (.iload_n 1, 1) := dk_27 (dk_at dksX2_bodiesIn_0 4 rfl rfl)
theorem dX2_bodiesIn_5 : decode cX2_bodiesIn 5 = .ok (.iload_n 2, 1) := dk_28 (dk_at dksX2_bodiesIn_0 5 rfl rfl)
theorem dX2_bodiesIn_6 : decode cX2_bodiesIn 6 = .ok (.iconst 5, 1) := dk_8 (dk_at dksX2_bodiesIn_0 6 rfl rfl)
theorem dX2_bodiesIn_7 : decode cX2_bodiesIn 7 = .ok (.invokevirtual 171, 3) := dk_182 0 171 (dk_at dksX2_bodiesIn_0 7 rfl rfl)
theorem dX2_bodiesIn_10 : decode cX2_bodiesIn 10 = .ok (.istore 5, 2) := dk_54 5 (dk_at dksX2_bodiesIn_0 10 rfl rfl)
theorem dX2_bodiesIn_12 : decode cX2_bodiesIn 12 = .ok (.iload 5, 2) := dk_21 5 (dk_at dksX2_bodiesIn_0 12 rfl rfl)
theorem dX2_bodiesIn_14 : decode cX2_bodiesIn 14 = .ok (.ifCond .lt 43, 3) := dk_155 0 43 (dk_at dksX2_bodiesIn_0 14 rfl rfl)
theorem dX2_bodiesIn_17 : decode cX2_bodiesIn 17 = .ok (.iload 4, 2) := dk_21 4 (dk_at dksX2_bodiesIn_0 17 rfl rfl)
theorem dX2_bodiesIn_19 : decode cX2_bodiesIn 19 = .ok (.aload_n 0, 1) := dk_42 (dk_at dksX2_bodiesIn_0 19 rfl rfl)
theorem dX2_bodiesIn_20 : decode cX2_bodiesIn 20 = .ok (.getfield 22, 3) := dk_180 0 22 (dk_at dksX2_bodiesIn_0 20 rfl rfl)
theorem dX2_bodiesIn_23 : decode cX2_bodiesIn 23 = .ok (.iload_n 1, 1) := dk_27 (dk_at dksX2_bodiesIn_0 23 rfl rfl)
theorem dX2_bodiesIn_24 : decode cX2_bodiesIn 24 = .ok (.iload 5, 2) := dk_21 5 (dk_at dksX2_bodiesIn_1 0 rfl rfl)
theorem dX2_bodiesIn_26 : decode cX2_bodiesIn 26 = .ok (.iconst 0, 1) := dk_3 (dk_at dksX2_bodiesIn_1 2 rfl rfl)
theorem dX2_bodiesIn_27 : decode cX2_bodiesIn 27 = .ok (.invokestatic 169, 3) := dk_184 0 169 (dk_at dksX2_bodiesIn_1 3 rfl rfl)
theorem dX2_bodiesIn_30 : decode cX2_bodiesIn 30 = .ok (.iaload, 1) := dk_46 (dk_at dksX2_bodiesIn_1 6 rfl rfl)
theorem dX2_bodiesIn_31 : decode cX2_bodiesIn 31 = .ok (.iload_n 3, 1) := dk_29 (dk_at dksX2_bodiesIn_1 7 rfl rfl)
theorem dX2_bodiesIn_32 : decode cX2_bodiesIn 32 = .ok (.if_icmp .ne 7, 3) := dk_160 0 7 (dk_at dksX2_bodiesIn_1 8 rfl rfl)
theorem dX2_bodiesIn_35 : decode cX2_bodiesIn 35 = .ok (.iconst 1, 1) := dk_4 (dk_at dksX2_bodiesIn_1 11 rfl rfl)
theorem dX2_bodiesIn_36 : decode cX2_bodiesIn 36 = .ok (.goto 4, 3) := dk_167 0 4 (dk_at dksX2_bodiesIn_1 12 rfl rfl)
theorem dX2_bodiesIn_39 : decode cX2_bodiesIn 39 = .ok (.iconst 0, 1) := dk_3 (dk_at dksX2_bodiesIn_1 15 rfl rfl)
theorem dX2_bodiesIn_40 : decode cX2_bodiesIn 40 = .ok (.iadd, 1) := dk_96 (dk_at dksX2_bodiesIn_1 16 rfl rfl)
theorem dX2_bodiesIn_41 : decode cX2_bodiesIn 41 = .ok (.istore 4, 2) := dk_54 4 (dk_at dksX2_bodiesIn_1 17 rfl rfl)
theorem dX2_bodiesIn_43 : decode cX2_bodiesIn 43 = .ok (.aload_n 0, 1) := dk_42 (dk_at dksX2_bodiesIn_1 19 rfl rfl)
theorem dX2_bodiesIn_44 : decode cX2_bodiesIn 44 = .ok (.iload_n 1, 1) := dk_27 (dk_at dksX2_bodiesIn_1 20 rfl rfl)
theorem dX2_bodiesIn_45 : decode cX2_bodiesIn 45 = .ok (.iload 5, 2) := dk_21 5 (dk_at dksX2_bodiesIn_1 21 rfl rfl)
theorem dX2_bodiesIn_47 : decode cX2_bodiesIn 47 = .ok (.bipush 6, 2) := dk_16 6 (dk_at dksX2_bodiesIn_2 0 rfl rfl)
theorem dX2_bodiesIn_49 : decode cX2_bodiesIn 49 = .ok (.invokevirtual 171, 3) := dk_182 0 171 (dk_at dksX2_bodiesIn_2 2 rfl rfl)
theorem dX2_bodiesIn_52 : decode cX2_bodiesIn 52 = .ok (.istore 5, 2) := dk_54 5 (dk_at dksX2_bodiesIn_2 5 rfl rfl)
theorem dX2_bodiesIn_54 : decode cX2_bodiesIn 54 = .ok (.goto (-42), 3) := dk_167 255 214 (dk_at dksX2_bodiesIn_2 7 rfl rfl)
theorem dX2_bodiesIn_57 : decode cX2_bodiesIn 57 = .ok (.iload 4, 2) := dk_21 4 (dk_at dksX2_bodiesIn_2 10 rfl rfl)
theorem dX2_bodiesIn_59 : decode cX2_bodiesIn 59 = .ok (.ireturn, 1) := dk_172 (dk_at dksX2_bodiesIn_2 12 rfl rfl)
def t_X2_bodiesIn (p1 : Int32) (p2 : Int32) (p3 : Int32) (w0 : TS) : Option (Int32 × TS) := gB2 (t_X2_nodePart p1 p2 (nI 5) w0) fun x2 w1 => gL4 (fun k8 (x4 : Int32) (x5 : Int32) (x6 : Int32) (x7 : Int32) (w3 : TS) => if x7 < 0 then some (x6, w3) else gB2 (t_X2_at x4 x7 (nI 0) w3) fun x11 w10 => gB1 (tLd w10 5 x11) fun x12 => gBd (fun (x15 : Int32) (x16 : Int32) (x17 : Int32) (x18 : Int32) (x19 : Int32) (w14 : TS) => gBd (x18 + x19) fun x20 => gB2 (t_X2_nodePart x15 x17 (nI 6) w14) fun x22 w21 => k8 x15 x16 x20 x22 w21) fun k13 => if x12 = x5 then k13 x4 x5 x7 x6 (nI 1) w10 else k13 x4 x5 x7 x6 (nI 0) w10) 20000 p1 p3 (nI 0) x2 w1
set_option maxHeartbeats 4000000 in
set_option maxRecDepth 100000 in
theorem kt_X2_bodiesIn {D : va_G} {dA : Nat → ClassId} {A : Nat → Prop} {K : Nat → Nat} {l : Launch} {wb : gw} {ad : Nat → Nat} (hinj : tInj ad) {h : Nat} (hh : 3 ≤ h) {p1 : Int32} {p2 : Int32} {p3 : Int32} {w0 ww : TS} {rr : Int32} (hf : t_X2_bodiesIn p1 p2 p3 w0 = some (rr, ww)) : gMet D dA A K l yX2_bodiesIn (ws_ yX2_bodiesIn cX2_bodiesIn 6 (some .int)) h [(ga (some (ad 0))), (gi p1), (gi p2), (gi p3)] (some (gi rr)) (twOf wb ad w0) (twOf wb ad ww) := by
  refine j_start (own := RX2) (by decide +kernel) rfl (Nat.le_of_ble_eq_true rfl) ?_
  intro p e R s m args below meth c C hr hin hw
  unfold t_X2_bodiesIn at hf
  show gJ D dA A K p l e R s m args below meth c (gEnd D dA A K below args s (twOf wb ad w0) (some (gi rr)) (twOf wb ad ww)) 6 0 [(0, (ga (some (ad 0)))), (1, (gi p1)), (2, (gi p2)), (3, (gi p3))] [] (twOf wb ad w0)
  refine j_iconst (v := (nI 0)) C dX2_bodiesIn_0 (by decide) ?_
  refine j_istore (lv' := [(4, (gi (nI 0))), (0, (ga (some (ad 0)))), (1, (gi p1)), (2, (gi p2)), (3, (gi p3))]) C dX2_bodiesIn_1 (by decide) rfl ?_
  refine j_aload_n C dX2_bodiesIn_3 rfl ?_
  refine j_iload_n C dX2_bodiesIn_4 rfl ?_
  refine j_iload_n C dX2_bodiesIn_5 rfl ?_
  refine j_iconst (v := (nI 5)) C dX2_bodiesIn_6 (by decide) ?_
  replace hf := gB2_e hf
  obtain ⟨x2, w1, ew1, hf⟩ := hf
  refine j_callV (As := [(gi p1), (gi p2), (gi (nI 5))]) (rest := []) (v := (some (gi x2))) C (by omega) (kt_X2_nodePart hinj (by omega) ew1) (tw_cls hinj) rfl q1812 q1814 qs60 q93 q1815 ⟨rfl, hd_X2_nodePart⟩ (by decide) rfl (Nat.le_of_ble_eq_true rfl) dX2_bodiesIn_7 ?_
  refine j_istore (lv' := [(5, (gi x2)), (4, (gi (nI 0))), (0, (ga (some (ad 0)))), (1, (gi p1)), (2, (gi p2)), (3, (gi p3))]) C dX2_bodiesIn_10 (by decide) rfl ?_
  refine j_sub (lv' := [(0, (ga (some (ad 0)))), (1, (gi p1)), (3, (gi p3)), (4, (gi (nI 0))), (5, (gi x2))]) (gL_cons rfl (gL_cons rfl (gL_cons rfl (gL_cons rfl (gL_cons rfl (gL_nil)))))) ?_
  refine gL4_e (fun (x4 : Int32) (x5 : Int32) (x6 : Int32) (x7 : Int32) (w3 : TS) => gJ D dA A K p l e R s m args below meth c (gEnd D dA A K below args s (twOf wb ad w0) (some (gi rr)) (twOf wb ad ww)) 6 12 [(0, (ga (some (ad 0)))), (1, (gi x4)), (3, (gi x5)), (4, (gi x6)), (5, (gi x7))] [] (twOf wb ad w3)) ?_ _ _ _ _ _ _ hf
  intro k8 jk8 x4 x5 x6 x7 w3 hf
  refine j_iload C dX2_bodiesIn_12 rfl ?_
  refine j_if_lt (tgt := 57) C dX2_bodiesIn_14 (by decide) (fun c9 => ?_) (fun c9 => ?_)
  · replace hf := gIf_t hf c9
    refine j_iload C dX2_bodiesIn_57 rfl ?_
    obtain ⟨rfl, rfl⟩ := gSome hf
    exact j_iret C hr hw dX2_bodiesIn_59
  · replace hf := gIf_f hf c9
    refine j_iload C dX2_bodiesIn_17 rfl ?_
    refine j_aload_n C dX2_bodiesIn_19 rfl ?_
    refine j_get (v := (ga (some (ad 5)))) C fl_X2_22_2 dX2_bodiesIn_20 (tw_F hinj rfl) ?_
    refine j_iload_n C dX2_bodiesIn_23 rfl ?_
    refine j_iload C dX2_bodiesIn_24 rfl ?_
    refine j_iconst (v := (nI 0)) C dX2_bodiesIn_26 (by decide) ?_
    replace hf := gB2_e hf
    obtain ⟨x11, w10, ew10, hf⟩ := hf
    refine j_callS (As := [(gi x4), (gi x7), (gi (nI 0))]) (rest := [(ga (some (ad 5))), (gi x6)]) (v := (some (gi x11))) C (by omega) (kt_X2_at hinj (by omega) ew10) q1801 q1802 q93 q1803 hd_X2_at (by decide) rfl (Nat.le_of_ble_eq_true rfl) dX2_bodiesIn_27 ?_
    replace hf := gB1_e hf
    obtain ⟨x12, ex12, hf⟩ := hf
    refine j_iald C (tw_ld hinj ex12) dX2_bodiesIn_30 ?_
    refine j_iload_n C dX2_bodiesIn_31 rfl ?_
    replace hf := gBd_x hf
    obtain ⟨k13, ek13, hf⟩ := hf
    have jk13 : ∀ (x15 : Int32) (x16 : Int32) (x17 : Int32) (x18 : Int32) (x19 : Int32) (w14 : TS), k13 x15 x16 x17 x18 x19 w14 = some (rr, ww) → gJ D dA A K p l e R s m args below meth c (gEnd D dA A K below args s (twOf wb ad w0) (some (gi rr)) (twOf wb ad ww)) 6 40 [(0, (ga (some (ad 0)))), (1, (gi x15)), (3, (gi x16)), (5, (gi x17))] [(gi x19), (gi x18)] (twOf wb ad w14) := by
      intro x15 x16 x17 x18 x19 w14 hf
      rw [ek13] at hf
      dsimp only at hf
      refine j_iadd C dX2_bodiesIn_40 ?_
      replace hf := gBd_x hf
      obtain ⟨x20, ex20, hf⟩ := hf
      refine j_nm ex20 ?_
      refine j_istore (lv' := [(4, (gi x20)), (0, (ga (some (ad 0)))), (1, (gi x15)), (3, (gi x16)), (5, (gi x17))]) C dX2_bodiesIn_41 (by decide) rfl ?_
      refine j_aload_n C dX2_bodiesIn_43 rfl ?_
      refine j_iload_n C dX2_bodiesIn_44 rfl ?_
      refine j_iload C dX2_bodiesIn_45 rfl ?_
      refine j_bipush (v := (nI 6)) C dX2_bodiesIn_47 (by decide) ?_
      replace hf := gB2_e hf
      obtain ⟨x22, w21, ew21, hf⟩ := hf
      refine j_callV (As := [(gi x15), (gi x17), (gi (nI 6))]) (rest := []) (v := (some (gi x22))) C (by omega) (kt_X2_nodePart hinj (by omega) ew21) (tw_cls hinj) rfl q1812 q1814 qs60 q93 q1815 ⟨rfl, hd_X2_nodePart⟩ (by decide) rfl (Nat.le_of_ble_eq_true rfl) dX2_bodiesIn_49 ?_
      refine j_istore (lv' := [(5, (gi x22)), (4, (gi x20)), (0, (ga (some (ad 0)))), (1, (gi x15)), (3, (gi x16))]) C dX2_bodiesIn_52 (by decide) rfl ?_
      refine j_goto (tgt := 12) C dX2_bodiesIn_54 (by decide) ?_
      refine j_sub (lv' := [(0, (ga (some (ad 0)))), (1, (gi x15)), (3, (gi x16)), (4, (gi x20)), (5, (gi x22))]) (gL_cons rfl (gL_cons rfl (gL_cons rfl (gL_cons rfl (gL_cons rfl (gL_nil)))))) ?_
      exact jk8 _ _ _ _ _ hf
    clear ek13
    refine j_icmp_ne (tgt := 39) C dX2_bodiesIn_32 (by decide) (fun c23 => ?_) (fun c23 => ?_)
    · replace hf := gIf_f hf c23
      refine j_iconst (v := (nI 0)) C dX2_bodiesIn_39 (by decide) ?_
      refine j_sub (lv' := [(0, (ga (some (ad 0)))), (1, (gi x4)), (3, (gi x5)), (5, (gi x7))]) (gL_cons rfl (gL_cons rfl (gL_cons rfl (gL_cons rfl (gL_nil))))) ?_
      exact jk13 _ _ _ _ _ _ hf
    · replace hf := gIf_t hf c23
      refine j_iconst (v := (nI 1)) C dX2_bodiesIn_35 (by decide) ?_
      refine j_goto (tgt := 40) C dX2_bodiesIn_36 (by decide) ?_
      refine j_sub (lv' := [(0, (ga (some (ad 0)))), (1, (gi x4)), (3, (gi x5)), (5, (gi x7))]) (gL_cons rfl (gL_cons rfl (gL_cons rfl (gL_cons rfl (gL_nil))))) ?_
      exact jk13 _ _ _ _ _ _ hf
