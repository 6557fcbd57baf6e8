set_option maxRecDepth 100000
def dkwX2_readsChoice_5 : List UInt8 := [42, 16, 93, 182, 0, 59, 154, 0, 5, 3, 172, 42, 89, 180, 0, 94, 4, 100, 181, 0, 94, 4, 172]
abbrev dktX2_readsChoice_5 : List UInt8 := dkwX2_readsChoice_5 ++ []
def dkwX2_readsChoice_4 : List UInt8 := [182, 0, 135, 153, 0, 30, 42, 16, 124, 182, 0, 59, 153, 0, 21, 42, 27, 28, 182, 0, 135, 153, 0, 12]
abbrev dktX2_readsChoice_4 : List UInt8 := dkwX2_readsChoice_4 ++ dktX2_readsChoice_5
def dkwX2_readsChoice_3 : List UInt8 := [182, 0, 74, 42, 16, 58, 182, 0, 59, 154, 0, 5, 3, 172, 42, 180, 0, 71, 61, 42, 27, 2]
abbrev dktX2_readsChoice_3 : List UInt8 := dkwX2_readsChoice_3 ++ dktX2_readsChoice_4
def dkwX2_readsChoice_2 : List UInt8 := [182, 0, 59, 153, 0, 10, 42, 182, 0, 121, 154, 0, 5, 3, 172, 42, 27, 5, 42, 180, 0, 52]
abbrev dktX2_readsChoice_2 : List UInt8 := dkwX2_readsChoice_2 ++ dktX2_readsChoice_3
def dkwX2_readsChoice_1 : List UInt8 := [3, 6, 182, 0, 55, 154, 0, 5, 3, 172, 42, 27, 4, 42, 180, 0, 52, 182, 0, 74, 42, 16, 60]
abbrev dktX2_readsChoice_1 : List UInt8 := dkwX2_readsChoice_1 ++ dktX2_readsChoice_2
def dkwX2_readsChoice_0 : List UInt8 := [42, 89, 180, 0, 45, 4, 96, 181, 0, 45, 42, 182, 0, 132, 42, 16, 120, 182, 0, 59, 153, 0, 12, 42]
abbrev dktX2_readsChoice_0 : List UInt8 := dkwX2_readsChoice_0 ++ dktX2_readsChoice_1
theorem dksX2_readsChoice_0 : cX2_readsChoice.data.toList.drop 0 = dktX2_readsChoice_0 := by decide +kernel
theorem dksX2_readsChoice_1 : cX2_readsChoice.data.toList.drop 24 = dktX2_readsChoice_1 := dk_seg dksX2_readsChoice_0 24 rfl rfl
theorem dksX2_readsChoice_2 : cX2_readsChoice.data.toList.drop 47 = dktX2_readsChoice_2 := dk_seg dksX2_readsChoice_1 23 rfl rfl
theorem dksX2_readsChoice_3 : cX2_readsChoice.data.toList.drop 69 = dktX2_readsChoice_3 := dk_seg dksX2_readsChoice_2 22 rfl rfl
theorem dksX2_readsChoice_4 : cX2_readsChoice.data.toList.drop 91 = dktX2_readsChoice_4 := dk_seg dksX2_readsChoice_3 22 rfl rfl
theorem dksX2_readsChoice_5 : cX2_readsChoice.data.toList.drop 115 = dktX2_readsChoice_5 := dk_seg dksX2_readsChoice_4 24 rfl rfl
theorem dX2_readsChoice_0 : decode cX2_readsChoice 0 = .ok (.aload_n 0, 1) := dk_42 (dk_at dksX2_readsChoice_0 0 rfl rfl)
theorem dX2_readsChoice_1 : decode cX2_readsChoice 1 = .ok (.dup, 1) := dk_89 (dk_at dksX2_readsChoice_0 1 rfl rfl)
theorem dX2_readsChoice_2 : decode cX2_readsChoice 2 = .ok (.getfield 45, 3) := dk_180 0 45 (dk_at dksX2_readsChoice_0 2 rfl rfl)
theorem dX2_readsChoice_5 : decode cX2_readsChoice 5 = .ok (.iconst 1, 1) := dk_4 (dk_at dksX2_readsChoice_0 5 rfl rfl)
theorem dX2_readsChoice_6 : decode cX2_readsChoice 6 = .ok (.iadd, 1) := dk_96 (dk_at dksX2_readsChoice_0 6 rfl rfl)
theorem dX2_readsChoice_7 : decode cX2_readsChoice 7 = .ok (.putfield 45, 3) := dk_181 0 45 (dk_at dksX2_readsChoice_0 7 rfl rfl)
theorem dX2_readsChoice_10 : decode cX2_readsChoice 10 = .ok (.aload_n 0, 1) := dk_42 (dk_at dksX2_readsChoice_0 10 rfl rfl)
theorem dX2_readsChoice_11 : decode cX2_readsChoice 11 = .ok (.invokevirtual 132, 3) := dk_182 0 132 (dk_at dksX2_readsChoice_0 11 rfl rfl)
theorem dX2_readsChoice_14 : decode cX2_readsChoice 14 = .ok (.aload_n 0, 1) := dk_42 (dk_at dksX2_readsChoice_0 14 rfl rfl)
theorem dX2_readsChoice_15 : decode cX2_readsChoice 15 = .ok (.bipush 120, 2) := dk_16 120 (dk_at dksX2_readsChoice_0 15 rfl rfl)
theorem dX2_readsChoice_17 : decode cX2_readsChoice 17 = .ok (.invokevirtual 59, 3) := dk_182 0 59 (dk_at dksX2_readsChoice_0 17 rfl rfl)
theorem dX2_readsChoice_20 : decode cX2_readsChoice 20 = .ok (.ifCond .eq 12, 3) := dk_153 0 12 (dk_at dksX2_readsChoice_0 20 rfl rfl)
theorem dX2_readsChoice_23 : decode cX2_readsChoice 23 = .ok (.aload_n 0, 1) := dk_42 (dk_at dksX2_readsChoice_0 23 rfl rfl)
theorem dX2_readsChoice_24 : decode cX2_readsChoice 24 = .ok (.iconst 0, 1) := dk_3 (dk_at dksX2_readsChoice_1 0 rfl rfl)
theorem dX2_readsChoice_25 : decode cX2_readsChoice 25 = .ok (.iconst 3, 1) := dk_6 (dk_at dksX2_readsChoice_1 1 rfl rfl)
theorem dX2_readsChoice_26 : decode cX2_readsChoice 26 = .ok (.invokevirtual 55, 3) := dk_182 0 55 (dk_at dksX2_readsChoice_1 2 rfl rfl)
theorem dX2_readsChoice_29 : decode cX2_readsChoice 29 = .ok (.ifCond .ne 5, 3) := dk_154 0 5 (dk_at dksX2_readsChoice_1 5 rfl rfl)
theorem dX2_readsChoice_32 : decode cX2_readsChoice 32 = .ok (.iconst 0, 1) := dk_3 (dk_at dksX2_readsChoice_1 8 rfl rfl)
theorem dX2_readsChoice_33 : decode cX2_readsChoice 33 = .ok (.ireturn, 1) := dk_172 (dk_at dksX2_readsChoice_1 9 rfl rfl)
theorem dX2_readsChoice_34 : decode cX2_readsChoice 34 = .ok (.aload_n 0, 1) := dk_42 (dk_at dksX2_readsChoice_1 10 rfl rfl)
theorem dX2_readsChoice_35 : decode cX2_readsChoice 35 = .ok (.iload_n 1, 1) := dk_27 (dk_at dksX2_readsChoice_1 11 rfl rfl)
theorem dX2_readsChoice_36 : decode cX2_readsChoice 36 = .ok (.iconst 1, 1) := dk_4 (dk_at dksX2_readsChoice_1 12 rfl rfl)
theorem dX2_readsChoice_37 : decode cX2_readsChoice 37 = .ok (.aload_n 0, 1) := dk_42 (dk_at dksX2_readsChoice_1 13 rfl rfl)
theorem dX2_readsChoice_38 : decode cX2_readsChoice 38 = .ok (.getfield 52, 3) := dk_180 0 52 (dk_at dksX2_readsChoice_1 14 rfl rfl)
theorem dX2_readsChoice_41 : decode cX2_readsChoice 41 = .ok (.invokevirtual 74, 3) := dk_182 0 74 (dk_at dksX2_readsChoice_1 17 rfl rfl)
theorem dX2_readsChoice_44 : decode cX2_readsChoice 44 = .ok (.aload_n 0, 1) := dk_42 (dk_at dksX2_readsChoice_1 20 rfl rfl)
theorem dX2_readsChoice_45 : decode cX2_readsChoice 45 = .ok (.bipush 60, 2) := dk_16 60 (dk_at dksX2_readsChoice_1 21 rfl rfl)
theorem dX2_readsChoice_47 : decode cX2_readsChoice 47 = .ok (.invokevirtual 59, 3) := dk_182 0 59 (dk_at dksX2_readsChoice_2 0 rfl rfl)
theorem dX2_readsChoice_50 : decode cX2_readsChoice 50 = .ok (.ifCond .eq 10, 3) := dk_153 0 10 (dk_at dksX2_readsChoice_2 3 rfl rfl)
theorem dX2_readsChoice_53 : decode cX2_readsChoice 53 = .ok (.aload_n 0, 1) := dk_42 (dk_at dksX2_readsChoice_2 6 rfl rfl)
theorem dX2_readsChoice_54 : decode cX2_readsChoice 54 = .ok (.invokevirtual 121, 3) := dk_182 0 121 (dk_at dksX2_readsChoice_2 7 rfl rfl)
theorem dX2_readsChoice_57 : decode cX2_readsChoice 57 = .ok (.ifCond .ne 5, 3) := dk_154 0 5 (dk_at dksX2_readsChoice_2 10 rfl rfl)
theorem dX2_readsChoice_60 : decode cX2_readsChoice 60 = .ok (.iconst 0, 1) := dk_3 (dk_at dksX2_readsChoice_2 13 rfl rfl)
theorem dX2_readsChoice_61 : decode cX2_readsChoice 61 = .ok (.ireturn, 1) := dk_172 (dk_at dksX2_readsChoice_2 14 rfl rfl)
theorem dX2_readsChoice_62 : decode cX2_readsChoice 62 = .ok (.aload_n 0, 1) := dk_42 (dk_at dksX2_readsChoice_2 15 rfl rfl)
theorem dX2_readsChoice_63 : decode cX2_readsChoice 63 = .ok (.iload_n 1, 1) := dk_27 (dk_at dksX2_readsChoice_2 16 rfl rfl)
theorem dX2_readsChoice_64 : decode cX2_readsChoice 64 = .ok (.iconst 2, 1) := dk_5 (dk_at dksX2_readsChoice_2 17 rfl rfl)
theorem dX2_readsChoice_65 : decode cX2_readsChoice 65 = .ok (.aload_n 0, 1) := dk_42 (dk_at dksX2_readsChoice_2 18 rfl rfl)
theorem dX2_readsChoice_66 : decode cX2_readsChoice 66 = .ok (.getfield 52, 3) := dk_180 0 52 (dk_at dksX2_readsChoice_2 19 rfl rfl)
theorem dX2_readsChoice_69 : decode cX2_readsChoice 69 = .ok (.invokevirtual 74, 3) := dk_182 0 74 (dk_at dksX2_readsChoice_3 0 rfl rfl)
theorem dX2_readsChoice_72 : decode cX2_readsChoice 72 = .ok (.aload_n 0, 1) := dk_42 (dk_at dksX2_readsChoice_3 3 rfl rfl)
theorem dX2_readsChoice_73 : decode cX2_readsChoice 73 = .ok (.bipush 58, 2) := dk_16 58 (dk_at dksX2_readsChoice_3 4 rfl rfl)
theorem dX2_readsChoice_75 : decode cX2_readsChoice 75 = .ok (.invokevirtual 59, 3) := dk_182 0 59 (dk_at dksX2_readsChoice_3 6 rfl rfl)
theorem dX2_readsChoice_78 : decode cX2_readsChoice 78 = .ok (.ifCond .ne 5, 3) := dk_154 0 5 (dk_at dksX2_readsChoice_3 9 rfl rfl)
theorem dX2_readsChoice_81 : decode cX2_readsChoice 81 = .ok (.iconst 0, 1) := dk_3 (dk_at dksX2_readsChoice_3 12 rfl rfl)
theorem dX2_readsChoice_82 : decode cX2_readsChoice 82 = .ok (.ireturn, 1) := dk_172 (dk_at dksX2_readsChoice_3 13 rfl rfl)
theorem dX2_readsChoice_83 : decode cX2_readsChoice 83 = .ok (.aload_n 0, 1) := dk_42 (dk_at dksX2_readsChoice_3 14 rfl rfl)
theorem dX2_readsChoice_84 : decode cX2_readsChoice 84 = .ok (.getfield 71, 3) := dk_180 0 71 (dk_at dksX2_readsChoice_3 15 rfl rfl)
theorem dX2_readsChoice_87 : decode cX2_readsChoice 87 = .ok (.istore_n 2, 1) := dk_61 (dk_at dksX2_readsChoice_3 18 rfl rfl)
theorem dX2_readsChoice_88 : decode cX2_readsChoice 88 = .ok (.aload_n 0, 1) := dk_42 (dk_at dksX2_readsChoice_3 19 rfl rfl)
theorem dX2_readsChoice_89 : decode cX2_readsChoice 89 = .ok (.iload_n 1, 1) := dk_27 (dk_at dksX2_readsChoice_3 20 rfl rfl)
theorem dX2_readsChoice_90 : decode cX2_readsChoice 90 = .ok (.iconst (-1), 1) := dk_2 (dk_at dksX2_readsChoice_3 21 rfl rfl)
theorem dX2_readsChoice_91 : decode cX2_readsChoice 91 = .ok (.invokevirtual 135, 3) := dk_182 0 135 (dk_at dksX2_readsChoice_4 0 rfl rfl)
theorem dX2_readsChoice_94 : decode cX2_readsChoice 94 = .ok (.ifCond .eq 30, 3) := dk_153 0 30 (dk_at dksX2_readsChoice_4 3 rfl rfl)
theorem dX2_readsChoice_97 : decode cX2_readsChoice 97 = .ok (.aload_n 0, 1) := dk_42 (dk_at dksX2_readsChoice_4 6 rfl rfl)
theorem dX2_readsChoice_98 : decode cX2_readsChoice 98 = .ok (.bipush 124, 2) := dk_16 124 (dk_at dksX2_readsChoice_4 7 rfl rfl)
theorem dX2_readsChoice_100 : decode cX2_readsChoice 100 = .ok (.invokevirtual 59, 3) := dk_182 0 59 (dk_at dksX2_readsChoice_4 9 rfl rfl)
theorem dX2_readsChoice_103 : decode cX2_readsChoice 103 = .ok (.ifCond .eq 21, 3) := dk_153 0 21 (dk_at dksX2_readsChoice_4 12 rfl rfl)
theorem dX2_readsChoice_106 : decode cX2_readsChoice 106 = .ok (.aload_n 0, 1) := dk_42 (dk_at dksX2_readsChoice_4 15 rfl rfl)
theorem dX2_readsChoice_107 : decode cX2_readsChoice 107 = .ok (.iload_n 1, 1) := dk_27 (dk_at dksX2_readsChoice_4 16 rfl rfl)
theorem dX2_readsChoice_108 : decode cX2_readsChoice 108 = .ok (.iload_n 2, 1) := dk_28 (dk_at dksX2_readsChoice_4 17 rfl rfl)
theorem dX2_readsChoice_109 : decode cX2_readsChoice 109 = .ok (.invokevirtual 135, 3) := dk_182 0 135 (dk_at dksX2_readsChoice_4 18 rfl rfl)
theorem dX2_readsChoice_112 : decode cX2_readsChoice 112 = .ok (.ifCond .eq 12, 3) := dk_153 0 12 (dk_at dksX2_readsChoice_4 21 rfl rfl)
theorem dX2_readsChoice_115 : decode cX2_readsChoice 115 = .ok (.aload_n 0, 1) := dk_42 (dk_at dksX2_readsChoice_5 0 rfl rfl)
theorem dX2_readsChoice_116 : decode cX2_readsChoice 116 = .ok (.bipush 93, 2) := dk_16 93 (dk_at dksX2_readsChoice_5 1 rfl rfl)
theorem dX2_readsChoice_118 : decode cX2_readsChoice 118 = .ok (.invokevirtual 59, 3) := dk_182 0 59 (dk_at dksX2_readsChoice_5 3 rfl rfl)
theorem dX2_readsChoice_121 : decode cX2_readsChoice 121 = .ok (.ifCond .ne 5, 3) := dk_154 0 5 (dk_at dksX2_readsChoice_5 6 rfl rfl)
theorem dX2_readsChoice_124 : decode cX2_readsChoice 124 = .ok (.iconst 0, 1) := dk_3 (dk_at dksX2_readsChoice_5 9 rfl rfl)
theorem dX2_readsChoice_125 : decode cX2_readsChoice 125 = .ok (.ireturn, 1) := dk_172 (dk_at dksX2_readsChoice_5 10 rfl rfl)
theorem dX2_readsChoice_126 : decode cX2_readsChoice 126 = .ok (.aload_n 0, 1) := dk_42 (dk_at dksX2_readsChoice_5 11 rfl rfl)
theorem dX2_readsChoice_127 : decode cX2_readsChoice 127 = .ok (.dup, 1) := dk_89 (dk_at dksX2_readsChoice_5 12 rfl rfl)
theorem dX2_readsChoice_128 : decode cX2_readsChoice 128 = .ok (.getfield 94, 3) := dk_180 0 94 (dk_at dksX2_readsChoice_5 13 rfl rfl)
theorem dX2_readsChoice_131 : decode cX2_readsChoice 131 = .ok (.iconst 1, 1) := dk_4 (dk_at dksX2_readsChoice_5 16 rfl rfl)
theorem dX2_readsChoice_132 : decode cX2_readsChoice 132 = .ok (.isub, 1) := dk_100 (dk_at dksX2_readsChoice_5 17 rfl rfl)
theorem dX2_readsChoice_133 : decode cX2_readsChoice 133 = .ok (.putfield 94, 3) := dk_181 0 94 (dk_at dksX2_readsChoice_5 18 rfl rfl)
theorem dX2_readsChoice_136 : decode cX2_readsChoice 136 = .ok (.iconst 1, 1) := dk_4 (dk_at dksX2_readsChoice_5 21 rfl rfl)
theorem dX2_readsChoice_137 : decode cX2_readsChoice 137 = .ok (.ireturn, 1) := dk_172 (dk_at dksX2_readsChoice_5 22 rfl rfl)
theorem hd_X2_opens : (yX2_opens.cls ≠ "java/lang/invoke/MethodHandle" ∧ yX2_opens.cls ≠ "java/lang/invoke/VarHandle" ∧ (parseMethodDescriptor yX2_opens.desc).map (fun d => d.parameters.length) = some 0) := ⟨by decide +kernel, by decide +kernel, by decide +kernel⟩
theorem hd_X2_readsBody : (yX2_readsBody.cls ≠ "java/lang/invoke/MethodHandle" ∧ yX2_readsBody.cls ≠ "java/lang/invoke/VarHandle" ∧ (parseMethodDescriptor yX2_readsBody.desc).map (fun d => d.parameters.length) = some 2) := ⟨by decide +kernel, by decide +kernel, by decide +kernel⟩
def t_X2_readsChoice (rec : Int32 → Int32 → TS → Option (Int32 × TS)) (p1 : Int32) (w0 : TS) : Option (Int32 × TS) := gBd (tPut w0 12 ((w0 0 12) + (nI 1))) fun w1 => gB2 (t_X2_opens  w1) fun _ w2 => gB2 (t_X2_takes (nI 120) w2) fun x4 w3 => if x4 = 0 then some ((nI 0), w3) else gB2 (t_X2_takesDigit (nI 0) (nI 3) w3) fun x7 w6 => if x7 = 0 then some ((nI 0), w6) else gB2 (t_X2_put p1 (nI 1) (w6 0 18) w6) fun _ w9 => gB2 (t_X2_takes (nI 60) w9) fun x11 w10 => if x11 = 0 then some ((nI 0), w10) else gB2 (t_X2_takesSigned  w10) fun x14 w13 => if x14 = 0 then some ((nI 0), w13) else gB2 (t_X2_put p1 (nI 2) (w13 0 18) w13) fun _ w16 => gB2 (t_X2_takes (nI 58) w16) fun x18 w17 => if x18 = 0 then some ((nI 0), w17) else gBd (w17 0 14) fun x20 => gB2 (rec p1 (-1) w17) fun x22 w21 => if x22 = 0 then some ((nI 0), w21) else gB2 (t_X2_takes (nI 124) w21) fun x25 w24 => if x25 = 0 then some ((nI 0), w24) else gB2 (rec p1 x20 w24) fun x28 w27 => if x28 = 0 then some ((nI 0), w27) else gB2 (t_X2_takes (nI 93) w27) fun x31 w30 => if x31 = 0 then some ((nI 0), w30) else gBd (tPut w30 16 ((w30 0 16) - (nI 1))) fun w33 => some ((nI 1), w33)
set_option maxHeartbeats 4000000 in
set_option maxRecDepth 100000 in
theorem kt_X2_readsChoice {D : va_G} {dA : Nat → ClassId} {A : Nat → Prop} {K : Nat → Nat} {l : Launch} {wb : gw} {ad : Nat → Nat} (hinj : tInj ad) {h : Nat} {rec : Int32 → Int32 → TS → Option (Int32 × TS)} {B : Nat} (hrec : ∀ {h : Nat}, B ≤ h → ∀ {p1 : Int32} {p2 : Int32} {w0 ww : TS} {rr : Int32}, rec p1 p2 w0 = some (rr, ww) → gMet D dA A K l yX2_readsBody (ws_ yX2_readsBody cX2_readsBody 6 (some .boolean)) h [(ga (some (ad 0))), (gi p1), (gi p2)] (some (gi rr)) (twOf wb ad w0) (twOf wb ad ww)) (hb : 5 ≤ B) (hh : B + 1 ≤ h) {p1 : Int32} {w0 ww : TS} {rr : Int32} (hf : t_X2_readsChoice rec p1 w0 = some (rr, ww)) : gMet D dA A K l yX2_readsChoice (ws_ yX2_readsChoice cX2_readsChoice 3 (some .boolean)) h [(ga (some (ad 0))), (gi p1)] (some (gi rr)) (twOf wb ad w0) (twOf wb ad ww) := by
  refine j_start (own := RX2) (by decide +kernel) rfl (Nat.le_of_ble_eq_true rfl) ?_
  intro p e R s m args below meth c C hr hin hw
  unfold t_X2_readsChoice at hf
  show gJ D dA A K p l e R s m args below meth c (gEnd D dA A K below args s (twOf wb ad w0) (some (gi rr)) (twOf wb ad ww)) 3 0 [(0, (ga (some (ad 0)))), (1, (gi p1))] [] (twOf wb ad w0)
  refine j_aload_n C dX2_readsChoice_0 rfl ?_
  refine j_dup C dX2_readsChoice_1 ?_
  refine j_get (v := (gi (w0 0 12))) C fl_X2_45_2 dX2_readsChoice_2 (tw_F hinj rfl) ?_
  refine j_iconst (v := (nI 1)) C dX2_readsChoice_5 (by decide) ?_
  refine j_iadd C dX2_readsChoice_6 ?_
  replace hf := gBd_x hf
  obtain ⟨w1, ew1, hf⟩ := hf
  refine j_put C fl_X2_45_2 tb_2 (tw_put hinj ew1 rfl (by decide)) fk_2_12 (fit_I ((w0 0 12) + (nI 1))) dX2_readsChoice_7 ?_
  refine j_aload_n C dX2_readsChoice_10 rfl ?_
  replace hf := gB2_e hf
  obtain ⟨_, w2, ew2, hf⟩ := hf
  refine j_callV (As := []) (rest := []) (v := none) C (by omega) (kt_X2_opens hinj (by omega) ew2) (tw_cls hinj) rfl q1742 q1744 qs50 q93 q1745 ⟨rfl, hd_X2_opens⟩ (by decide) rfl (Nat.le_of_ble_eq_true rfl) dX2_readsChoice_11 ?_
  refine j_aload_n C dX2_readsChoice_14 rfl ?_
  refine j_bipush (v := (nI 120)) C dX2_readsChoice_15 (by decide) ?_
  replace hf := gB2_e hf
  obtain ⟨x4, w3, ew3, hf⟩ := hf
  refine j_callV (As := [(gi (nI 120))]) (rest := []) (v := (some (gi x4))) C (by omega) (kt_X2_takes hinj (by omega) ew3) (tw_cls hinj) rfl q1710 q1712 qs42 q93 q1713 ⟨rfl, hd_X2_takes⟩ (by decide) rfl (Nat.le_of_ble_eq_true rfl) dX2_readsChoice_17 ?_
  refine j_if_eq (tgt := 32) C dX2_readsChoice_20 (by decide) (fun c5 => ?_) (fun c5 => ?_)
  · replace hf := gIf_t hf c5
    refine j_iconst (v := (nI 0)) C dX2_readsChoice_32 (by decide) ?_
    obtain ⟨rfl, rfl⟩ := gSome hf
    exact j_zret C hr (by decide) hw dX2_readsChoice_33
  · replace hf := gIf_f hf c5
    refine j_aload_n C dX2_readsChoice_23 rfl ?_
    refine j_iconst (v := (nI 0)) C dX2_readsChoice_24 (by decide) ?_
    refine j_iconst (v := (nI 3)) C dX2_readsChoice_25 (by decide) ?_
    replace hf := gB2_e hf
    obtain ⟨x7, w6, ew6, hf⟩ := hf
    refine j_callV (As := [(gi (nI 0)), (gi (nI 3))]) (rest := []) (v := (some (gi x7))) C (by omega) (kt_X2_takesDigit hinj (by omega) ew6) (tw_cls hinj) rfl q1714 q1716 qs43 q93 q1717 ⟨rfl, hd_X2_takesDigit⟩ (by decide) rfl (Nat.le_of_ble_eq_true rfl) dX2_readsChoice_26 ?_
    refine j_if_ne (tgt := 34) C dX2_readsChoice_29 (by decide) (fun c8 => ?_) (fun c8 => ?_)
    · replace hf := gIf_f hf c8
      refine j_aload_n C dX2_readsChoice_34 rfl ?_
      refine j_iload_n C dX2_readsChoice_35 rfl ?_
      refine j_iconst (v := (nI 1)) C dX2_readsChoice_36 (by decide) ?_
      refine j_aload_n C dX2_readsChoice_37 rfl ?_
      refine j_get (v := (gi (w6 0 18))) C fl_X2_52_2 dX2_readsChoice_38 (tw_F hinj rfl) ?_
      replace hf := gB2_e hf
      obtain ⟨_, w9, ew9, hf⟩ := hf
      refine j_callV (As := [(gi p1), (gi (nI 1)), (gi (w6 0 18))]) (rest := []) (v := none) C (by omega) (kt_X2_put hinj (by omega) ew9) (tw_cls hinj) rfl q1680 q1682 qs36 q93 q1683 ⟨rfl, hd_X2_put⟩ (by decide) rfl (Nat.le_of_ble_eq_true rfl) dX2_readsChoice_41 ?_
      refine j_aload_n C dX2_readsChoice_44 rfl ?_
      refine j_bipush (v := (nI 60)) C dX2_readsChoice_45 (by decide) ?_
      replace hf := gB2_e hf
      obtain ⟨x11, w10, ew10, hf⟩ := hf
      refine j_callV (As := [(gi (nI 60))]) (rest := []) (v := (some (gi x11))) C (by omega) (kt_X2_takes hinj (by omega) ew10) (tw_cls hinj) rfl q1710 q1712 qs42 q93 q1713 ⟨rfl, hd_X2_takes⟩ (by decide) rfl (Nat.le_of_ble_eq_true rfl) dX2_readsChoice_47 ?_
      refine j_if_eq (tgt := 60) C dX2_readsChoice_50 (by decide) (fun c12 => ?_) (fun c12 => ?_)
      · replace hf := gIf_t hf c12
        refine j_iconst (v := (nI 0)) C dX2_readsChoice_60 (by decide) ?_
        obtain ⟨rfl, rfl⟩ := gSome hf
        exact j_zret C hr (by decide) hw dX2_readsChoice_61
      · replace hf := gIf_f hf c12
        refine j_aload_n C dX2_readsChoice_53 rfl ?_
        replace hf := gB2_e hf
        obtain ⟨x14, w13, ew13, hf⟩ := hf
        refine j_callV (As := []) (rest := []) (v := (some (gi x14))) C (by omega) (kt_X2_takesSigned hinj (by omega) ew13) (tw_cls hinj) rfl q1734 q1736 qs48 q93 q1737 ⟨rfl, hd_X2_takesSigned⟩ (by decide) rfl (Nat.le_of_ble_eq_true rfl) dX2_readsChoice_54 ?_
        refine j_if_ne (tgt := 62) C dX2_readsChoice_57 (by decide) (fun c15 => ?_) (fun c15 => ?_)
        · replace hf := gIf_f hf c15
          refine j_aload_n C dX2_readsChoice_62 rfl ?_
          refine j_iload_n C dX2_readsChoice_63 rfl ?_
          refine j_iconst (v := (nI 2)) C dX2_readsChoice_64 (by decide) ?_
          refine j_aload_n C dX2_readsChoice_65 rfl ?_
          refine j_get (v := (gi (w13 0 18))) C fl_X2_52_2 dX2_readsChoice_66 (tw_F hinj rfl) ?_
          replace hf := gB2_e hf
          obtain ⟨_, w16, ew16, hf⟩ := hf
          refine j_callV (As := [(gi p1), (gi (nI 2)), (gi (w13 0 18))]) (rest := []) (v := none) C (by omega) (kt_X2_put hinj (by omega) ew16) (tw_cls hinj) rfl q1680 q1682 qs36 q93 q1683 ⟨rfl, hd_X2_put⟩ (by decide) rfl (Nat.le_of_ble_eq_true rfl) dX2_readsChoice_69 ?_
          refine j_aload_n C dX2_readsChoice_72 rfl ?_
          refine j_bipush (v := (nI 58)) C dX2_readsChoice_73 (by decide) ?_
          replace hf := gB2_e hf
          obtain ⟨x18, w17, ew17, hf⟩ := hf
          refine j_callV (As := [(gi (nI 58))]) (rest := []) (v := (some (gi x18))) C (by omega) (kt_X2_takes hinj (by omega) ew17) (tw_cls hinj) rfl q1710 q1712 qs42 q93 q1713 ⟨rfl, hd_X2_takes⟩ (by decide) rfl (Nat.le_of_ble_eq_true rfl) dX2_readsChoice_75 ?_
          refine j_if_ne (tgt := 83) C dX2_readsChoice_78 (by decide) (fun c19 => ?_) (fun c19 => ?_)
          · replace hf := gIf_f hf c19
            refine j_aload_n C dX2_readsChoice_83 rfl ?_
            refine j_get (v := (gi (w17 0 14))) C fl_X2_71_2 dX2_readsChoice_84 (tw_F hinj rfl) ?_
            replace hf := gBd_x hf
            obtain ⟨x20, ex20, hf⟩ := hf
            refine j_nm ex20 ?_
            refine j_istore_n (lv' := [(2, (gi x20)), (0, (ga (some (ad 0)))), (1, (gi p1))]) C dX2_readsChoice_87 (by decide) rfl ?_
            refine j_aload_n C dX2_readsChoice_88 rfl ?_
            refine j_iload_n C dX2_readsChoice_89 rfl ?_
            refine j_iconst (v := (-1)) C dX2_readsChoice_90 (by decide) ?_
            replace hf := gB2_e hf
            obtain ⟨x22, w21, ew21, hf⟩ := hf
            refine j_callV (As := [(gi p1), (gi (-1))]) (rest := []) (v := (some (gi x22))) C (by omega) (hrec (by omega) ew21) (tw_cls hinj) rfl q1672 q1674 qs34 q93 q1675 ⟨rfl, hd_X2_readsBody⟩ (by decide) rfl (Nat.le_of_ble_eq_true rfl) dX2_readsChoice_91 ?_
            refine j_if_eq (tgt := 124) C dX2_readsChoice_94 (by decide) (fun c23 => ?_) (fun c23 => ?_)
            · replace hf := gIf_t hf c23
              refine j_iconst (v := (nI 0)) C dX2_readsChoice_124 (by decide) ?_
              obtain ⟨rfl, rfl⟩ := gSome hf
              exact j_zret C hr (by decide) hw dX2_readsChoice_125
            · replace hf := gIf_f hf c23
              refine j_aload_n C dX2_readsChoice_97 rfl ?_
              refine j_bipush (v := (nI 124)) C dX2_readsChoice_98 (by decide) ?_
              replace hf := gB2_e hf
              obtain ⟨x25, w24, ew24, hf⟩ := hf
              refine j_callV (As := [(gi (nI 124))]) (rest := []) (v := (some (gi x25))) C (by omega) (kt_X2_takes hinj (by omega) ew24) (tw_cls hinj) rfl q1710 q1712 qs42 q93 q1713 ⟨rfl, hd_X2_takes⟩ (by decide) rfl (Nat.le_of_ble_eq_true rfl) dX2_readsChoice_100 ?_
              refine j_if_eq (tgt := 124) C dX2_readsChoice_103 (by decide) (fun c26 => ?_) (fun c26 => ?_)
              · replace hf := gIf_t hf c26
                refine j_iconst (v := (nI 0)) C dX2_readsChoice_124 (by decide) ?_
                obtain ⟨rfl, rfl⟩ := gSome hf
                exact j_zret C hr (by decide) hw dX2_readsChoice_125
              · replace hf := gIf_f hf c26
                refine j_aload_n C dX2_readsChoice_106 rfl ?_
                refine j_iload_n C dX2_readsChoice_107 rfl ?_
                refine j_iload_n C dX2_readsChoice_108 rfl ?_
                replace hf := gB2_e hf
                obtain ⟨x28, w27, ew27, hf⟩ := hf
                refine j_callV (As := [(gi p1), (gi x20)]) (rest := []) (v := (some (gi x28))) C (by omega) (hrec (by omega) ew27) (tw_cls hinj) rfl q1672 q1674 qs34 q93 q1675 ⟨rfl, hd_X2_readsBody⟩ (by decide) rfl (Nat.le_of_ble_eq_true rfl) dX2_readsChoice_109 ?_
                refine j_if_eq (tgt := 124) C dX2_readsChoice_112 (by decide) (fun c29 => ?_) (fun c29 => ?_)
                · replace hf := gIf_t hf c29
                  refine j_iconst (v := (nI 0)) C dX2_readsChoice_124 (by decide) ?_
                  obtain ⟨rfl, rfl⟩ := gSome hf
                  exact j_zret C hr (by decide) hw dX2_readsChoice_125
                · replace hf := gIf_f hf c29
                  refine j_aload_n C dX2_readsChoice_115 rfl ?_
                  refine j_bipush (v := (nI 93)) C dX2_readsChoice_116 (by decide) ?_
                  replace hf := gB2_e hf
                  obtain ⟨x31, w30, ew30, hf⟩ := hf
                  refine j_callV (As := [(gi (nI 93))]) (rest := []) (v := (some (gi x31))) C (by omega) (kt_X2_takes hinj (by omega) ew30) (tw_cls hinj) rfl q1710 q1712 qs42 q93 q1713 ⟨rfl, hd_X2_takes⟩ (by decide) rfl (Nat.le_of_ble_eq_true rfl) dX2_readsChoice_118 ?_
                  refine j_if_ne (tgt := 126) C dX2_readsChoice_121 (by decide) (fun c32 => ?_) (fun c32 => ?_)
                  · replace hf := gIf_f hf c32
                    refine j_aload_n C dX2_readsChoice_126 rfl ?_
                    refine j_dup C dX2_readsChoice_127 ?_
                    refine j_get (v := (gi (w30 0 16))) C fl_X2_94_2 dX2_readsChoice_128 (tw_F hinj rfl) ?_
                    refine j_iconst (v := (nI 1)) C dX2_readsChoice_131 (by decide) ?_
                    refine j_isub C dX2_readsChoice_132 ?_
                    replace hf := gBd_x hf
                    obtain ⟨w33, ew33, hf⟩ := hf
                    refine j_put C fl_X2_94_2 tb_2 (tw_put hinj ew33 rfl (by decide)) fk_2_16 (fit_I ((w30 0 16) - (nI 1))) dX2_readsChoice_133 ?_
                    refine j_iconst (v := (nI 1)) C dX2_readsChoice_136 (by decide) ?_
                    obtain ⟨rfl, rfl⟩ := gSome hf
                    exact j_zret C hr (by decide) hw dX2_readsChoice_137
                  · replace hf := gIf_t hf c32
                    refine j_iconst (v := (nI 0)) C dX2_readsChoice_124 (by decide) ?_
                    obtain ⟨rfl, rfl⟩ := gSome hf
                    exact j_zret C hr (by decide) hw dX2_readsChoice_125
          · replace hf := gIf_t hf c19
            refine j_iconst (v := (nI 0)) C dX2_readsChoice_81 (by decide) ?_
            obtain ⟨rfl, rfl⟩ := gSome hf
            exact j_zret C hr (by decide) hw dX2_readsChoice_82
        · replace hf := gIf_t hf c15
          refine j_iconst (v := (nI 0)) C dX2_readsChoice_60 (by decide) ?_
          obtain ⟨rfl, rfl⟩ := gSome hf
          exact j_zret C hr (by decide) hw dX2_readsChoice_61
    · replace hf := gIf_t hf c8
      refine j_iconst (v := (nI 0)) C dX2_readsChoice_32 (by decide) ?_
      obtain ⟨rfl, rfl⟩ := gSome hf
      exact j_zret C hr (by decide) hw dX2_readsChoice_33
def dkwX2_readsParallel_6 : List UInt8 := [182, 0, 74, 4, 172]
abbrev dktX2_readsParallel_6 : List UInt8 := dkwX2_readsParallel_6 ++ []
def dkwX2_readsParallel_5 : List UInt8 := [182, 0, 55, 154, 0, 5, 3, 172, 42, 27, 4, 42, 180, 0, 52, 182, 0, 74, 42, 27, 5, 28]
abbrev dktX2_readsParallel_5 : List UInt8 := dkwX2_readsParallel_5 ++ dktX2_readsParallel_6
def dkwX2_readsParallel_4 : List UInt8 := [181, 0, 94, 42, 27, 4, 28, 182, 0, 74, 42, 16, 113, 182, 0, 59, 153, 0, 24, 42, 4, 28]
abbrev dktX2_readsParallel_4 : List UInt8 := dkwX2_readsParallel_4 ++ dktX2_readsParallel_5
def dkwX2_readsParallel_3 : List UInt8 := [182, 0, 59, 154, 255, 201, 42, 16, 41, 182, 0, 59, 154, 0, 5, 3, 172, 42, 89, 180, 0, 94, 4, 100]
abbrev dktX2_readsParallel_3 : List UInt8 := dkwX2_readsParallel_3 ++ dktX2_readsParallel_4
def dkwX2_readsParallel_2 : List UInt8 := [54, 4, 42, 27, 29, 182, 0, 135, 154, 0, 5, 3, 172, 21, 4, 62, 132, 2, 1, 42, 16, 124]
abbrev dktX2_readsParallel_2 : List UInt8 := dkwX2_readsParallel_2 ++ dktX2_readsParallel_3
def dkwX2_readsParallel_1 : List UInt8 := [42, 182, 0, 48, 184, 0, 88, 153, 0, 7, 5, 167, 0, 4, 4, 181, 0, 78, 3, 172, 42, 180, 0, 71]
abbrev dktX2_readsParallel_1 : List UInt8 := dkwX2_readsParallel_1 ++ dktX2_readsParallel_2
def dkwX2_readsParallel_0 : List UInt8 := [42, 89, 180, 0, 45, 4, 96, 181, 0, 45, 42, 182, 0, 132, 3, 61, 2, 62, 28, 7, 160, 0, 24, 42]
abbrev dktX2_readsParallel_0 : List UInt8 := dkwX2_readsParallel_0 ++ dktX2_readsParallel_1
theorem dksX2_readsParallel_0 : cX2_readsParallel.data.toList.drop 0 = dktX2_readsParallel_0 := by decide +kernel
theorem dksX2_readsParallel_1 : cX2_readsParallel.data.toList.drop 24 = dktX2_readsParallel_1 := dk_seg dksX2_readsParallel_0 24 rfl rfl
theorem dksX2_readsParallel_2 : cX2_readsParallel.data.toList.drop 48 = dktX2_readsParallel_2 := dk_seg dksX2_readsParallel_1 24 rfl rfl
theorem dksX2_readsParallel_3 : cX2_readsParallel.data.toList.drop 70 = dktX2_readsParallel_3 := dk_seg dksX2_readsParallel_2 22 rfl rfl
theorem dksX2_readsParallel_4 : cX2_readsParallel.data.toList.drop 94 = dktX2_readsParallel_4 := dk_seg dksX2_readsParallel_3 24 rfl rfl
theorem dksX2_readsParallel_5 : cX2_readsParallel.data.toList.drop 116 = dktX2_readsParallel_5 := dk_seg dksX2_readsParallel_4 22 rfl rfl
theorem dksX2_readsParallel_6 : cX2_readsParallel.data.toList.drop 138 = dktX2_readsParallel_6 := dk_seg dksX2_readsParallel_5 22 rfl rfl
theorem dX2_readsParallel_0 : decode cX2_readsParallel 0 = .ok (.aload_n 0, 1) := dk_42 (dk_at dksX2_readsParallel_0 0 rfl rfl)
theorem dX2_readsParallel_1 : decode cX2_readsParallel 1 = .ok (.dup, 1) := dk_89 (dk_at dksX2_readsParallel_0 1 rfl rfl)
theorem dX2_readsParallel_2 : decode cX2_readsParallel 2 = .ok (.getfield 45, 3) := dk_180 0 45 (dk_at dksX2_readsParallel_0 2 rfl rfl)
theorem dX2_readsParallel_5 : decode cX2_readsParallel 5 = .ok (.iconst 1, 1) := dk_4 (dk_at dksX2_readsParallel_0 5 rfl rfl)
theorem dX2_readsParallel_6 : decode cX2_readsParallel 6 = .ok (.iadd, 1) := dk_96 (dk_at dksX2_readsParallel_0 6 rfl rfl)
theorem dX2_readsParallel_7 : decode cX2_readsParallel 7 = .ok (.putfield 45, 3) := dk_181 0 45 (dk_at dksX2_readsParallel_0 7 rfl rfl)
theorem dX2_readsParallel_10 : decode cX2_readsParallel 10 = .ok (.aload_n 0, 1) := dk_42 (dk_at dksX2_readsParallel_0 10 rfl rfl)
theorem dX2_readsParallel_11 : decode cX2_readsParallel 11 = .ok (.invokevirtual 132, 3) := dk_182 0 132 (dk_at dksX2_readsParallel_0 11 rfl rfl)
theorem dX2_readsParallel_14 : decode cX2_readsParallel 14 = .ok (.iconst 0, 1) := dk_3 (dk_at dksX2_readsParallel_0 14 rfl rfl)
theorem dX2_readsParallel_15 : decode cX2_readsParallel 15 = .ok (.istore_n 2, 1) := dk_61 (dk_at dksX2_readsParallel_0 15 rfl rfl)
theorem dX2_readsParallel_16 : decode cX2_readsParallel 16 = .ok (.iconst (-1), 1) := dk_2 (dk_at dksX2_readsParallel_0 16 rfl rfl)
theorem dX2_readsParallel_17 : decode cX2_readsParallel 17 = .ok (.istore_n 3, 1) := dk_62 (dk_at dksX2_readsParallel_0 17 rfl rfl)
theorem dX2_readsParallel_18 : decode cX2_readsParallel 18 = .ok (.iload_n 2, 1) := dk_28 (dk_at dksX2_readsParallel_0 18 rfl rfl)
theorem dX2_readsParallel_19 : decode cX2_readsParallel 19 = .ok (.iconst 4, 1) := dk_7 (dk_at dksX2_readsParallel_0 19 rfl rfl)
theorem dX2_readsParallel_20 : decode cX2_readsParallel 20 = .ok (.if_icmp .ne 24, 3) := dk_160 0 24 (dk_at dksX2_readsParallel_0 20 rfl rfl)
theorem dX2_readsParallel_23 : decode cX2_readsParallel 23 = .ok (.aload_n 0, 1) := dk_42 (dk_at dksX2_readsParallel_0 23 rfl rfl)
theorem dX2_readsParallel_24 : decode cX2_readsParallel 24 = .ok (.aload_n 0, 1) := dk_42 (dk_at dksX2_readsParallel_1 0 rfl rfl)
theorem dX2_readsParallel_25 : decode cX2_readsParallel 25 = .ok (.invokevirtual 48, 3) := dk_182 0 48 (dk_at dksX2_readsParallel_1 1 rfl rfl)
theorem dX2_readsParallel_28 : decode cX2_readsParallel 28 = .ok (.invokestatic 88, 3) := dk_184 0 88 (dk_at dksX2_readsParallel_1 4 rfl rfl)
theorem dX2_readsParallel_31 : decode cX2_readsParallel 31 = .ok (.ifCond .eq 7, 3) := dk_153 0 7 (dk_at dksX2_readsParallel_1 7 rfl rfl)
theorem dX2_readsParallel_34 : decode cX2_readsParallel 34 = .ok (.iconst 2, 1) := dk_5 (dk_at dksX2_readsParallel_1 10 rfl rfl)
theorem dX2_readsParallel_35 : decode cX2_readsParallel 35 = .ok (.goto 4, 3) := dk_167 0 4 (dk_at dksX2_readsParallel_1 11 rfl rfl)
theorem dX2_readsParallel_38 : decode cX2_readsParallel 38 = .ok (.iconst 1, 1) := dk_4 (dk_at dksX2_readsParallel_1 14 rfl rfl)
theorem dX2_readsParallel_39 : decode cX2_readsParallel 39 = .ok (.putfield 78, 3) := dk_181 0 78 (dk_at dksX2_readsParallel_1 15 rfl rfl)
theorem dX2_readsParallel_42 : decode cX2_readsParallel 42 = .ok (.iconst 0, 1) := dk_3 (dk_at dksX2_readsParallel_1 18 rfl rfl)
theorem dX2_readsParallel_43 : decode cX2_readsParallel 43 = .ok (.ireturn, 1) := dk_172 (dk_at dksX2_readsParallel_1 19 rfl rfl)
theorem dX2_readsParallel_44 : decode cX2_readsParallel 44 = .ok (.aload_n 0, 1) := dk_42 (dk_at dksX2_readsParallel_1 20 rfl rfl)
theorem dX2_readsParallel_45 : decode cX2_readsParallel 45 = .ok (.getfield 71, 3) := dk_180 0 71 (dk_at dksX2_readsParallel_1 21 rfl rfl)
theorem dX2_readsParallel_48 : decode cX2_readsParallel 48 = .ok (.istore 4, 2) := dk_54 4 (dk_at dksX2_readsParallel_2 0 rfl rfl)
theorem dX2_readsParallel_50 : decode cX2_readsParallel 50 = .ok (.aload_n 0, 1) := dk_42 (dk_at dksX2_readsParallel_2 2 rfl rfl)
theorem dX2_readsParallel_51 : decode cX2_readsParallel 51 = .ok (.iload_n 1, 1) := dk_27 (dk_at dksX2_readsParallel_2 3 rfl rfl)
theorem dX2_readsParallel_52 : decode cX2_readsParallel 52 = .ok (.iload_n 3, 1) := dk_29 (dk_at dksX2_readsParallel_2 4 rfl rfl)
theorem dX2_readsParallel_53 : decode cX2_readsParallel 53 = .ok (.invokevirtual 135, 3) := dk_182 0 135 (dk_at dksX2_readsParallel_2 5 rfl rfl)
theorem dX2_readsParallel_56 : decode cX2_readsParallel 56 = .ok (.ifCond .ne 5, 3) := dk_154 0 5 (dk_at dksX2_readsParallel_2 8 rfl rfl)
theorem dX2_readsParallel_59 : decode cX2_readsParallel 59 = .ok (.iconst 0, 1) := dk_3 (dk_at dksX2_readsParallel_2 11 rfl rfl)
theorem dX2_readsParallel_60 : decode cX2_readsParallel 60 = .ok (.ireturn, 1) := dk_172 (dk_at dksX2_readsParallel_2 12 rfl rfl)
theorem dX2_readsParallel_61 : decode cX2_readsParallel 61 = .ok (.iload 4, 2) := dk_21 4 (dk_at dksX2_readsParallel_2 13 rfl rfl)
theorem dX2_readsParallel_63 : decode cX2_readsParallel 63 = .ok (.istore_n 3, 1) := dk_62 (dk_at dksX2_readsParallel_2 15 rfl rfl)
theorem dX2_readsParallel_64 : decode cX2_readsParallel 64 = .ok (.iinc 2 1, 3) := dk_132 2 1 (dk_at dksX2_readsParallel_2 16 rfl rfl)
theorem dX2_readsParallel_67 : decode cX2_readsParallel 67 = .ok (.aload_n 0, 1) := dk_42 (dk_at dksX2_readsParallel_2 19 rfl rfl)
theorem dX2_readsParallel_68 : decode cX2_readsParallel 68 = .ok (.bipush 124, 2) := dk_16 124 (dk_at dksX2_readsParallel_2 20 rfl rfl)
theorem dX2_readsParallel_70 : decode cX2_readsParallel 70 = .ok (.invokevirtual 59, 3) := dk_182 0 59 (dk_at dksX2_readsParallel_3 0 rfl rfl)
theorem dX2_readsParallel_73 : decode cX2_readsParallel 73 = .ok (.ifCond .ne (-55), 3) := dk_154 255 201 (dk_at dksX2_readsParallel_3 3 rfl rfl)
theorem dX2_readsParallel_76 : decode cX2_readsParallel 76 = .ok (.aload_n 0, 1) := dk_42 (dk_at dksX2_readsParallel_3 6 rfl rfl)
theorem dX2_readsParallel_77 : decode cX2_readsParallel 77 = .ok (.bipush 41, 2) := dk_16 41 (dk_at dksX2_readsParallel_3 7 rfl rfl)
theorem dX2_readsParallel_79 : decode cX2_readsParallel 79 = .ok (.invokevirtual 59, 3) := dk_182 0 59 (dk_at dksX2_readsParallel_3 9 rfl rfl)
theorem dX2_readsParallel_82 : decode cX2_readsParallel 82 = .ok (.ifCond .ne 5, 3) := dk_154 0 5 (dk_at dksX2_readsParallel_3 12 rfl rfl)
theorem dX2_readsParallel_85 : decode cX2_readsParallel 85 = .ok (.iconst 0, 1) := dk_3 (dk_at dksX2_readsParallel_3 15 rfl rfl)
theorem dX2_readsParallel_86 : decode cX2_readsParallel 86 = .ok (.ireturn, 1) := dk_172 (dk_at dksX2_readsParallel_3 16 rfl rfl)
theorem dX2_readsParallel_87 : decode cX2_readsParallel 87 = .ok (.aload_n 0, 1) := dk_42 (dk_at dksX2_readsParallel_3 17 rfl rfl)
theorem dX2_readsParallel_88 : decode cX2_readsParallel 88 = .ok (.dup, 1) := dk_89 (dk_at dksX2_readsParallel_3 18 rfl rfl)
theorem dX2_readsParallel_89 : decode cX2_readsParallel 89 = .ok (.getfield 94, 3) := dk_180 0 94 (dk_at dksX2_readsParallel_3 19 rfl rfl)
theorem dX2_readsParallel_92 : decode cX2_readsParallel 92 = .ok (.iconst 1, 1) := dk_4 (dk_at dksX2_readsParallel_3 22 rfl rfl)
theorem dX2_readsParallel_93 : decode cX2_readsParallel 93 = .ok (.isub, 1) := dk_100 (dk_at dksX2_readsParallel_3 23 rfl rfl)
theorem dX2_readsParallel_94 : decode cX2_readsParallel 94 = .ok (.putfield 94, 3) := dk_181 0 94 (dk_at dksX2_readsParallel_4 0 rfl rfl)
theorem dX2_readsParallel_97 : decode cX2_readsParallel 97 = .ok (.aload_n 0, 1) := dk_42 (dk_at dksX2_readsParallel_4 3 rfl rfl)
theorem dX2_readsParallel_98 : decode cX2_readsParallel 98 = .ok (.iload_n 1, 1) := dk_27 (dk_at dksX2_readsParallel_4 4 rfl rfl)
theorem dX2_readsParallel_99 : decode cX2_readsParallel 99 = .ok (.iconst 1, 1) := dk_4 (dk_at dksX2_readsParallel_4 5 rfl rfl)
theorem dX2_readsParallel_100 : decode cX2_readsParallel 100 = .ok (.iload_n 2, 1) := dk_28 (dk_at dksX2_readsParallel_4 6 rfl rfl)
theorem dX2_readsParallel_101 : decode cX2_readsParallel 101 = .ok (.invokevirtual 74, 3) := dk_182 0 74 (dk_at dksX2_readsParallel_4 7 rfl rfl)
theorem dX2_readsParallel_104 : decode cX2_readsParallel 104 = .ok (.aload_n 0, 1) := dk_42 (dk_at dksX2_readsParallel_4 10 rfl rfl)
theorem dX2_readsParallel_105 : decode cX2_readsParallel 105 = .ok (.bipush 113, 2) := dk_16 113 (dk_at dksX2_readsParallel_4 11 rfl rfl)
theorem dX2_readsParallel_107 : decode cX2_readsParallel 107 = .ok (.invokevirtual 59, 3) := dk_182 0 59 (dk_at dksX2_readsParallel_4 13 rfl rfl)
theorem dX2_readsParallel_110 : decode cX2_readsParallel 110 = .ok (.ifCond .eq 24, 3) := dk_153 0 24 (dk_at dksX2_readsParallel_4 16 rfl rfl)
theorem dX2_readsParallel_113 : decode cX2_readsParallel 113 = .ok (.aload_n 0, 1) := dk_42 (dk_at dksX2_readsParallel_4 19 rfl rfl)
theorem dX2_readsParallel_114 : decode cX2_readsParallel 114 = .ok (.iconst 1, 1) := dk_4 (dk_at dksX2_readsParallel_4 20 rfl rfl)
theorem dX2_readsParallel_115 : decode cX2_readsParallel 115 = .ok (.iload_n 2, 1) := dk_28 (dk_at dksX2_readsParallel_4 21 rfl rfl)
theorem dX2_readsParallel_116 : decode cX2_readsParallel 116 = .ok (.invokevirtual 55, 3) := dk_182 0 55 (dk_at dksX2_readsParallel_5 0 rfl rfl)
theorem dX2_readsParallel_119 : decode cX2_readsParallel 119 = .ok (.ifCond .ne 5, 3) := dk_154 0 5 (dk_at dksX2_readsParallel_5 3 rfl rfl)
theorem dX2_readsParallel_122 : decode cX2_readsParallel 122 = .ok (.iconst 0, 1) := dk_3 (dk_at dksX2_readsParallel_5 6 rfl rfl)
theorem dX2_readsParallel_123 : decode cX2_readsParallel 123 = .ok (.ireturn, 1) := dk_172 (dk_at dksX2_readsParallel_5 7 rfl rfl)
theorem dX2_readsParallel_124 : decode cX2_readsParallel 124 = .ok (.aload_n 0, 1) := dk_42 (dk_at dksX2_readsParallel_5 8 rfl rfl)
theorem dX2_readsParallel_125 : decode cX2_readsParallel 125 = .ok (.iload_n 1, 1) := dk_27 (dk_at dksX2_readsParallel_5 9 rfl rfl)
theorem dX2_readsParallel_126 : decode cX2_readsParallel 126 = .ok (.iconst 1, 1) := dk_4 (dk_at dksX2_readsParallel_5 10 rfl rfl)
theorem dX2_readsParallel_127 : decode cX2_readsParallel 127 = .ok (.aload_n 0, 1) := dk_42 (dk_at dksX2_readsParallel_5 11 rfl rfl)
theorem dX2_readsParallel_128 : decode cX2_readsParallel 128 = .ok (.getfield 52, 3) := dk_180 0 52 (dk_at dksX2_readsParallel_5 12 rfl rfl)
theorem dX2_readsParallel_131 : decode cX2_readsParallel 131 = .ok (.invokevirtual 74, 3) := dk_182 0 74 (dk_at dksX2_readsParallel_5 15 rfl rfl)
theorem dX2_readsParallel_134 : decode cX2_readsParallel 134 = .ok (.aload_n 0, 1) := dk_42 (dk_at dksX2_readsParallel_5 18 rfl rfl)
theorem dX2_readsParallel_135 : decode cX2_readsParallel 135 = .ok (.iload_n 1, 1) := dk_27 (dk_at dksX2_readsParallel_5 19 rfl rfl)
theorem dX2_readsParallel_136 : decode cX2_readsParallel 136 = .ok (.iconst 2, 1) := dk_5 (dk_at dksX2_readsParallel_5 20 rfl rfl)
theorem dX2_readsParallel_137 : decode cX2_readsParallel 137 = .ok (.iload_n 2, 1) := dk_28 (dk_at dksX2_readsParallel_5 21 rfl rfl)
theorem dX2_readsParallel_138 : decode cX2_readsParallel 138 = .ok (.invokevirtual 74, 3) := dk_182 0 74 (dk_at dksX2_readsParallel_6 0 rfl rfl)
theorem dX2_readsParallel_141 : decode cX2_readsParallel 141 = .ok (.iconst 1, 1) := dk_4 (dk_at dksX2_readsParallel_6 3 rfl rfl)
theorem dX2_readsParallel_142 : decode cX2_readsParallel 142 = .ok (.ireturn, 1) := dk_172 (dk_at dksX2_readsParallel_6 4 rfl rfl)
theorem hd_X2_beginsItem : (yX2_beginsItem.cls ≠ "java/lang/invoke/MethodHandle" ∧ yX2_beginsItem.cls ≠ "java/lang/invoke/VarHandle" ∧ (parseMethodDescriptor yX2_beginsItem.desc).map (fun d => d.parameters.length) = some 1) := ⟨by decide +kernel, by decide +kernel, by decide +kernel⟩
def t_X2_readsParallel (rec : Int32 → Int32 → TS → Option (Int32 × TS)) (p1 : Int32) (w0 : TS) : Option (Int32 × TS) := gBd (tPut w0 12 ((w0 0 12) + (nI 1))) fun w1 => gB2 (t_X2_opens  w1) fun _ w2 => gL3 (fun k7 (x4 : Int32) (x5 : Int32) (x6 : Int32) (w3 : TS) => if x5 = (nI 4) then gB2 (t_X2_here  w3) fun x35 w34 => gB2 (t_X2_beginsItem x35 w34) fun x37 w36 => gBd (fun (x40 : Int32) (w39 : TS) => gBd (tPut w39 13 x40) fun w41 => some ((nI 0), w41)) fun k38 => if x37 = 0 then k38 (nI 1) w36 else k38 (nI 2) w36 else gBd (w3 0 14) fun x9 => gB2 (rec x4 x6 w3) fun x11 w10 => if x11 = 0 then some ((nI 0), w10) else gBd (x5 + (nI 1)) fun x13 => gB2 (t_X2_takes (nI 124) w10) fun x15 w14 => if x15 = 0 then gB2 (t_X2_takes (nI 41) w14) fun x18 w17 => if x18 = 0 then some ((nI 0), w17) else gBd (tPut w17 16 ((w17 0 16) - (nI 1))) fun w20 => gB2 (t_X2_put x4 (nI 1) x13 w20) fun _ w21 => gB2 (t_X2_takes (nI 113) w21) fun x23 w22 => gBd (fun (x26 : Int32) (x27 : Int32) (w25 : TS) => gB2 (t_X2_put x26 (nI 2) x27 w25) fun _ w28 => some ((nI 1), w28)) fun k24 => if x23 = 0 then k24 x4 x13 w22 else gB2 (t_X2_takesDigit (nI 1) x13 w22) fun x31 w30 => if x31 = 0 then some ((nI 0), w30) else gB2 (t_X2_put x4 (nI 1) (w30 0 18) w30) fun _ w33 => k24 x4 x13 w33 else k7 x4 x13 x9 w14) 20000 p1 (nI 0) (-1) w2
set_option maxHeartbeats 4000000 in
set_option maxRecDepth 100000 in
theorem kt_X2_readsParallel {D : va_G} {dA : Nat → ClassId} {A : Nat → Prop} {K : Nat → Nat} {l : Launch} {wb : gw} {ad : Nat → Nat} (hinj : tInj ad) {h : Nat} {rec : Int32 → Int32 → TS → Option (Int32 × TS)} {B : Nat} (hrec : ∀ {h : Nat}, B ≤ h → ∀ {p1 : Int32} {p2 : Int32} {w0 ww : TS} {rr : Int32}, rec p1 p2 w0 = some (rr, ww) → gMet D dA A K l yX2_readsBody (ws_ yX2_readsBody cX2_readsBody 6 (some .boolean)) h [(ga (some (ad 0))), (gi p1), (gi p2)] (some (gi rr)) (twOf wb ad w0) (twOf wb ad ww)) (hb : 5 ≤ B) (hh : B + 1 ≤ h) {p1 : Int32} {w0 ww : TS} {rr : Int32} (hf : t_X2_readsParallel rec p1 w0 = some (rr, ww)) : gMet D dA A K l yX2_readsParallel (ws_ yX2_readsParallel cX2_readsParallel 5 (some .boolean)) h [(ga (some (ad 0))), (gi p1)] (some (gi rr)) (twOf wb ad w0) (twOf wb ad ww) := by
  refine j_start (own := RX2) (by decide +kernel) rfl (Nat.le_of_ble_eq_true rfl) ?_
  intro p e R s m args below meth c C hr hin hw
  unfold t_X2_readsParallel at hf
  show gJ D dA A K p l e R s m args below meth c (gEnd D dA A K below args s (twOf wb ad w0) (some (gi rr)) (twOf wb ad ww)) 5 0 [(0, (ga (some (ad 0)))), (1, (gi p1))] [] (twOf wb ad w0)
  refine j_aload_n C dX2_readsParallel_0 rfl ?_
  refine j_dup C dX2_readsParallel_1 ?_
  refine j_get (v := (gi (w0 0 12))) C fl_X2_45_2 dX2_readsParallel_2 (tw_F hinj rfl) ?_
  refine j_iconst (v := (nI 1)) C dX2_readsParallel_5 (by decide) ?_
  refine j_iadd C dX2_readsParallel_6 ?_
  replace hf := gBd_x hf
  obtain ⟨w1, ew1, hf⟩ := hf
  refine j_put C fl_X2_45_2 tb_2 (tw_put hinj ew1 rfl (by decide)) fk_2_12 (fit_I ((w0 0 12) + (nI 1))) dX2_readsParallel_7 ?_
  refine j_aload_n C dX2_readsParallel_10 rfl ?_
  replace hf := gB2_e hf
  obtain ⟨_, w2, ew2, hf⟩ := hf
  refine j_callV (As := []) (rest := []) (v := none) C (by omega) (kt_X2_opens hinj (by omega) ew2) (tw_cls hinj) rfl q1742 q1744 qs50 q93 q1745 ⟨rfl, hd_X2_opens⟩ (by decide) rfl (Nat.le_of_ble_eq_true rfl) dX2_readsParallel_11 ?_
  refine j_iconst (v := (nI 0)) C dX2_readsParallel_14 (by decide) ?_
  refine j_istore_n (lv' := [(2, (gi (nI 0))), (0, (ga (some (ad 0)))), (1, (gi p1))]) C dX2_readsParallel_15 (by decide) rfl ?_
  refine j_iconst (v := (-1)) C dX2_readsParallel_16 (by decide) ?_
  refine j_istore_n (lv' := [(3, (gi (-1))), (2, (gi (nI 0))), (0, (ga (some (ad 0)))), (1, (gi p1))]) C dX2_readsParallel_17 (by decide) rfl ?_
  refine j_sub (lv' := [(0, (ga (some (ad 0)))), (1, (gi p1)), (2, (gi (nI 0))), (3, (gi (-1)))]) (gL_cons rfl (gL_cons rfl (gL_cons rfl (gL_cons rfl (gL_nil))))) ?_
  refine gL3_e (fun (x4 : Int32) (x5 : Int32) (x6 : Int32) (w3 : TS) => gJ D dA A K p l e R s m args below meth c (gEnd D dA A K below args s (twOf wb ad w0) (some (gi rr)) (twOf wb ad ww)) 5 18 [(0, (ga (some (ad 0)))), (1, (gi x4)), (2, (gi x5)), (3, (gi x6))] [] (twOf wb ad w3)) ?_ _ _ _ _ _ hf
  intro k7 jk7 x4 x5 x6 w3 hf
  refine j_iload_n C dX2_readsParallel_18 rfl ?_
  refine j_iconst (v := (nI 4)) C dX2_readsParallel_19 (by decide) ?_
  refine j_icmp_ne (tgt := 44) C dX2_readsParallel_20 (by decide) (fun c8 => ?_) (fun c8 => ?_)
  · replace hf := gIf_f hf c8
    refine j_aload_n C dX2_readsParallel_44 rfl ?_
    refine j_get (v := (gi (w3 0 14))) C fl_X2_71_2 dX2_readsParallel_45 (tw_F hinj rfl) ?_
    replace hf := gBd_x hf
    obtain ⟨x9, ex9, hf⟩ := hf
    refine j_nm ex9 ?_
    refine j_istore (lv' := [(4, (gi x9)), (0, (ga (some (ad 0)))), (1, (gi x4)), (2, (gi x5)), (3, (gi x6))]) C dX2_readsParallel_48 (by decide) rfl ?_
    refine j_aload_n C dX2_readsParallel_50 rfl ?_
    refine j_iload_n C dX2_readsParallel_51 rfl ?_
    refine j_iload_n C dX2_readsParallel_52 rfl ?_
    replace hf := gB2_e hf
    obtain ⟨x11, w10, ew10, hf⟩ := hf
    refine j_callV (As := [(gi x4), (gi x6)]) (rest := []) (v := (some (gi x11))) C (by omega) (hrec (by omega) ew10) (tw_cls hinj) rfl q1672 q1674 qs34 q93 q1675 ⟨rfl, hd_X2_readsBody⟩ (by decide) rfl (Nat.le_of_ble_eq_true rfl) dX2_readsParallel_53 ?_
    refine j_if_ne (tgt := 61) C dX2_readsParallel_56 (by decide) (fun c12 => ?_) (fun c12 => ?_)
    · replace hf := gIf_f hf c12
      refine j_iload C dX2_readsParallel_61 rfl ?_
      refine j_istore_n (lv' := [(3, (gi x9)), (4, (gi x9)), (0, (ga (some (ad 0)))), (1, (gi x4)), (2, (gi x5))]) C dX2_readsParallel_63 (by decide) rfl ?_
      replace hf := gBd_x hf
      obtain ⟨x13, ex13, hf⟩ := hf
      refine j_iinc (v := x13) (lv' := [(2, (gi x13)), (3, (gi x9)), (4, (gi x9)), (0, (ga (some (ad 0)))), (1, (gi x4))]) C dX2_readsParallel_64 rfl (by rw [ex13]; rfl) (by decide) rfl ?_
      refine j_aload_n C dX2_readsParallel_67 rfl ?_
      refine j_bipush (v := (nI 124)) C dX2_readsParallel_68 (by decide) ?_
      replace hf := gB2_e hf
      obtain ⟨x15, w14, ew14, hf⟩ := hf
      refine j_callV (As := [(gi (nI 124))]) (rest := []) (v := (some (gi x15))) C (by omega) (kt_X2_takes hinj (by omega) ew14) (tw_cls hinj) rfl q1710 q1712 qs42 q93 q1713 ⟨rfl, hd_X2_takes⟩ (by decide) rfl (Nat.le_of_ble_eq_true rfl) dX2_readsParallel_70 ?_
      refine j_if_ne (tgt := 18) C dX2_readsParallel_73 (by decide) (fun c16 => ?_) (fun c16 => ?_)
      · replace hf := gIf_f hf c16
        refine j_sub (lv' := [(0, (ga (some (ad 0)))), (1, (gi x4)), (2, (gi x13)), (3, (gi x9))]) (gL_cons rfl (gL_cons rfl (gL_cons rfl (gL_cons rfl (gL_nil))))) ?_
        exact jk7 _ _ _ _ hf
      · replace hf := gIf_t hf c16
        refine j_aload_n C dX2_readsParallel_76 rfl ?_
        refine j_bipush (v := (nI 41)) C dX2_readsParallel_77 (by decide) ?_
        replace hf := gB2_e hf
        obtain ⟨x18, w17, ew17, hf⟩ := hf
        refine j_callV (As := [(gi (nI 41))]) (rest := []) (v := (some (gi x18))) C (by omega) (kt_X2_takes hinj (by omega) ew17) (tw_cls hinj) rfl q1710 q1712 qs42 q93 q1713 ⟨rfl, hd_X2_takes⟩ (by decide) rfl (Nat.le_of_ble_eq_true rfl) dX2_readsParallel_79 ?_
        refine j_if_ne (tgt := 87) C dX2_readsParallel_82 (by decide) (fun c19 => ?_) (fun c19 => ?_)
        · replace hf := gIf_f hf c19
          refine j_aload_n C dX2_readsParallel_87 rfl ?_
          refine j_dup C dX2_readsParallel_88 ?_
          refine j_get (v := (gi (w17 0 16))) C fl_X2_94_2 dX2_readsParallel_89 (tw_F hinj rfl) ?_
          refine j_iconst (v := (nI 1)) C dX2_readsParallel_92 (by decide) ?_
          refine j_isub C dX2_readsParallel_93 ?_
          replace hf := gBd_x hf
          obtain ⟨w20, ew20, hf⟩ := hf
          refine j_put C fl_X2_94_2 tb_2 (tw_put hinj ew20 rfl (by decide)) fk_2_16 (fit_I ((w17 0 16) - (nI 1))) dX2_readsParallel_94 ?_
          refine j_aload_n C dX2_readsParallel_97 rfl ?_
          refine j_iload_n C dX2_readsParallel_98 rfl ?_
          refine j_iconst (v := (nI 1)) C dX2_readsParallel_99 (by decide) ?_
          refine j_iload_n C dX2_readsParallel_100 rfl ?_
          replace hf := gB2_e hf
          obtain ⟨_, w21, ew21, hf⟩ := hf
          refine j_callV (As := [(gi x4), (gi (nI 1)), (gi x13)]) (rest := []) (v := none) C (by omega) (kt_X2_put hinj (by omega) ew21) (tw_cls hinj) rfl q1680 q1682 qs36 q93 q1683 ⟨rfl, hd_X2_put⟩ (by decide) rfl (Nat.le_of_ble_eq_true rfl) dX2_readsParallel_101 ?_
          refine j_aload_n C dX2_readsParallel_104 rfl ?_
          refine j_bipush (v := (nI 113)) C dX2_readsParallel_105 (by decide) ?_
          replace hf := gB2_e hf
          obtain ⟨x23, w22, ew22, hf⟩ := hf
          refine j_callV (As := [(gi (nI 113))]) (rest := []) (v := (some (gi x23))) C (by omega) (kt_X2_takes hinj (by omega) ew22) (tw_cls hinj) rfl q1710 q1712 qs42 q93 q1713 ⟨rfl, hd_X2_takes⟩ (by decide) rfl (Nat.le_of_ble_eq_true rfl) dX2_readsParallel_107 ?_
          replace hf := gBd_x hf
          obtain ⟨k24, ek24, hf⟩ := hf
          have jk24 : ∀ (x26 : Int32) (x27 : Int32) (w25 : TS), k24 x26 x27 w25 = some (rr, ww) → gJ D dA A K p l e R s m args below meth c (gEnd D dA A K below args s (twOf wb ad w0) (some (gi rr)) (twOf wb ad ww)) 5 134 [(0, (ga (some (ad 0)))), (1, (gi x26)), (2, (gi x27))] [] (twOf wb ad w25) := by
            intro x26 x27 w25 hf
            rw [ek24] at hf
            dsimp only at hf
            refine j_aload_n C dX2_readsParallel_134 rfl ?_
            refine j_iload_n C dX2_readsParallel_135 rfl ?_
            refine j_iconst (v := (nI 2)) C dX2_readsParallel_136 (by decide) ?_
            refine j_iload_n C dX2_readsParallel_137 rfl ?_
            replace hf := gB2_e hf
            obtain ⟨_, w28, ew28, hf⟩ := hf
            refine j_callV (As := [(gi x26), (gi (nI 2)), (gi x27)]) (rest := []) (v := none) C (by omega) (kt_X2_put hinj (by omega) ew28) (tw_cls hinj) rfl q1680 q1682 qs36 q93 q1683 ⟨rfl, hd_X2_put⟩ (by decide) rfl (Nat.le_of_ble_eq_true rfl) dX2_readsParallel_138 ?_
            refine j_iconst (v := (nI 1)) C dX2_readsParallel_141 (by decide) ?_
            obtain ⟨rfl, rfl⟩ := gSome hf
            exact j_zret C hr (by decide) hw dX2_readsParallel_142
          clear ek24
          refine j_if_eq (tgt := 134) C dX2_readsParallel_110 (by decide) (fun c29 => ?_) (fun c29 => ?_)
          · replace hf := gIf_t hf c29
            refine j_sub (lv' := [(0, (ga (some (ad 0)))), (1, (gi x4)), (2, (gi x13))]) (gL_cons rfl (gL_cons rfl (gL_cons rfl (gL_nil)))) ?_
            exact jk24 _ _ _ hf
          · replace hf := gIf_f hf c29
            refine j_aload_n C dX2_readsParallel_113 rfl ?_
            refine j_iconst (v := (nI 1)) C dX2_readsParallel_114 (by decide) ?_
            refine j_iload_n C dX2_readsParallel_115 rfl ?_
            replace hf := gB2_e hf
            obtain ⟨x31, w30, ew30, hf⟩ := hf
            refine j_callV (As := [(gi (nI 1)), (gi x13)]) (rest := []) (v := (some (gi x31))) C (by omega) (kt_X2_takesDigit hinj (by omega) ew30) (tw_cls hinj) rfl q1714 q1716 qs43 q93 q1717 ⟨rfl, hd_X2_takesDigit⟩ (by decide) rfl (Nat.le_of_ble_eq_true rfl) dX2_readsParallel_116 ?_
            refine j_if_ne (tgt := 124) C dX2_readsParallel_119 (by decide) (fun c32 => ?_) (fun c32 => ?_)
            · replace hf := gIf_f hf c32
              refine j_aload_n C dX2_readsParallel_124 rfl ?_
              refine j_iload_n C dX2_readsParallel_125 rfl ?_
              refine j_iconst (v := (nI 1)) C dX2_readsParallel_126 (by decide) ?_
              refine j_aload_n C dX2_readsParallel_127 rfl ?_
              refine j_get (v := (gi (w30 0 18))) C fl_X2_52_2 dX2_readsParallel_128 (tw_F hinj rfl) ?_
              replace hf := gB2_e hf
              obtain ⟨_, w33, ew33, hf⟩ := hf
              refine j_callV (As := [(gi x4), (gi (nI 1)), (gi (w30 0 18))]) (rest := []) (v := none) C (by omega) (kt_X2_put hinj (by omega) ew33) (tw_cls hinj) rfl q1680 q1682 qs36 q93 q1683 ⟨rfl, hd_X2_put⟩ (by decide) rfl (Nat.le_of_ble_eq_true rfl) dX2_readsParallel_131 ?_
              refine j_sub (lv' := [(0, (ga (some (ad 0)))), (1, (gi x4)), (2, (gi x13))]) (gL_cons rfl (gL_cons rfl (gL_cons rfl (gL_nil)))) ?_
              exact jk24 _ _ _ hf
            · replace hf := gIf_t hf c32
              refine j_iconst (v := (nI 0)) C dX2_readsParallel_122 (by decide) ?_
              obtain ⟨rfl, rfl⟩ := gSome hf
              exact j_zret C hr (by decide) hw dX2_readsParallel_123
        · replace hf := gIf_t hf c19
          refine j_iconst (v := (nI 0)) C dX2_readsParallel_85 (by decide) ?_
          obtain ⟨rfl, rfl⟩ := gSome hf
          exact j_zret C hr (by decide) hw dX2_readsParallel_86
    · replace hf := gIf_t hf c12
      refine j_iconst (v := (nI 0)) C dX2_readsParallel_59 (by decide) ?_
      obtain ⟨rfl, rfl⟩ := gSome hf
      exact j_zret C hr (by decide) hw dX2_readsParallel_60
  · replace hf := gIf_t hf c8
    refine j_aload_n C dX2_readsParallel_23 rfl ?_
    refine j_aload_n C dX2_readsParallel_24 rfl ?_
    replace hf := gB2_e hf
    obtain ⟨x35, w34, ew34, hf⟩ := hf
    refine j_callV (As := []) (rest := [(ga (some (ad 0)))]) (v := (some (gi x35))) C (by omega) (kt_X2_here hinj (by omega) ew34) (tw_cls hinj) rfl q1691 q1693 qs38 q93 q1694 ⟨rfl, hd_X2_here⟩ (by decide) rfl (Nat.le_of_ble_eq_true rfl) dX2_readsParallel_25 ?_
    replace hf := gB2_e hf
    obtain ⟨x37, w36, ew36, hf⟩ := hf
    refine j_callS (As := [(gi x35)]) (rest := [(ga (some (ad 0)))]) (v := (some (gi x37))) C (by omega) (kt_X2_beginsItem hinj (by omega) ew36) q1695 q1696 q93 q1697 hd_X2_beginsItem (by decide) rfl (Nat.le_of_ble_eq_true rfl) dX2_readsParallel_28 ?_
    replace hf := gBd_x hf
    obtain ⟨k38, ek38, hf⟩ := hf
    have jk38 : ∀ (x40 : Int32) (w39 : TS), k38 x40 w39 = some (rr, ww) → gJ D dA A K p l e R s m args below meth c (gEnd D dA A K below args s (twOf wb ad w0) (some (gi rr)) (twOf wb ad ww)) 5 39 [] [(gi x40), (ga (some (ad 0)))] (twOf wb ad w39) := by
      intro x40 w39 hf
      rw [ek38] at hf
      dsimp only at hf
      replace hf := gBd_x hf
      obtain ⟨w41, ew41, hf⟩ := hf
      refine j_put C fl_X2_78_2 tb_2 (tw_put hinj ew41 rfl (by decide)) fk_2_13 (fit_I x40) dX2_readsParallel_39 ?_
      refine j_iconst (v := (nI 0)) C dX2_readsParallel_42 (by decide) ?_
      obtain ⟨rfl, rfl⟩ := gSome hf
      exact j_zret C hr (by decide) hw dX2_readsParallel_43
    clear ek38
    refine j_if_eq (tgt := 38) C dX2_readsParallel_31 (by decide) (fun c42 => ?_) (fun c42 => ?_)
    · replace hf := gIf_t hf c42
      refine j_iconst (v := (nI 1)) C dX2_readsParallel_38 (by decide) ?_
      refine j_sub (lv' := []) (gL_nil) ?_
      exact jk38 _ _ hf
    · replace hf := gIf_f hf c42
      refine j_iconst (v := (nI 2)) C dX2_readsParallel_34 (by decide) ?_
      refine j_goto (tgt := 39) C dX2_readsParallel_35 (by decide) ?_
      refine j_sub (lv' := []) (gL_nil) ?_
      exact jk38 _ _ hf
def dkwX2_readsItem_6 : List UInt8 := [182, 0, 81, 182, 0, 112, 172, 42, 42, 16, 6, 27, 182, 0, 81, 182, 0, 115, 172]
abbrev dktX2_readsItem_6 : List UInt8 := dkwX2_readsItem_6 ++ []
def dkwX2_readsItem_5 : List UInt8 := [6, 27, 182, 0, 81, 182, 0, 106, 172, 42, 42, 7, 27, 182, 0, 81, 182, 0, 109, 172, 42, 42, 8, 27]
abbrev dktX2_readsItem_5 : List UInt8 := dkwX2_readsItem_5 ++ dktX2_readsItem_6
def dkwX2_readsItem_4 : List UInt8 := [42, 42, 4, 27, 182, 0, 81, 182, 0, 100, 172, 42, 42, 5, 27, 182, 0, 81, 182, 0, 103, 172, 42, 42]
abbrev dktX2_readsItem_4 : List UInt8 := dkwX2_readsItem_4 ++ dktX2_readsItem_5
def dkwX2_readsItem_3 : List UInt8 := [171, 0, 0, 0, 104, 0, 0, 0, 5, 0, 0, 0, 91, 0, 0, 0, 93, 0, 0, 0, 115, 0, 0, 0, 71, 0, 0, 0, 116, 0, 0, 0, 49, 0, 0, 0, 119, 0, 0, 0, 60, 0, 0, 0, 120, 0, 0, 0, 82]
abbrev dktX2_readsItem_3 : List UInt8 := dkwX2_readsItem_3 ++ dktX2_readsItem_4
def dkwX2_readsItem_2 : List UInt8 := [42, 89, 180, 0, 91, 4, 96, 181, 0, 91, 28]
abbrev dktX2_readsItem_2 : List UInt8 := dkwX2_readsItem_2 ++ dktX2_readsItem_3
def dkwX2_readsItem_1 : List UInt8 := [16, 91, 159, 0, 9, 28, 16, 40, 160, 0, 16, 42, 180, 0, 94, 7, 160, 0, 8, 42, 182, 0, 97, 172]
abbrev dktX2_readsItem_1 : List UInt8 := dkwX2_readsItem_1 ++ dktX2_readsItem_2
def dkwX2_readsItem_0 : List UInt8 := [42, 182, 0, 48, 61, 28, 184, 0, 88, 154, 0, 5, 3, 172, 42, 180, 0, 91, 16, 24, 159, 0, 23, 28]
abbrev dktX2_readsItem_0 : List UInt8 := dkwX2_readsItem_0 ++ dktX2_readsItem_1
theorem dksX2_readsItem_0 : cX2_readsItem.data.toList.drop 0 = dktX2_readsItem_0 := by decide +kernel
theorem dksX2_readsItem_1 : cX2_readsItem.data.toList.drop 24 = dktX2_readsItem_1 := dk_seg dksX2_readsItem_0 24 rfl rfl
theorem dksX2_readsItem_2 : cX2_readsItem.data.toList.drop 48 = dktX2_readsItem_2 := dk_seg dksX2_readsItem_1 24 rfl rfl
theorem dksX2_readsItem_3 : cX2_readsItem.data.toList.drop 59 = dktX2_readsItem_3 := dk_seg dksX2_readsItem_2 11 rfl rfl
theorem dksX2_readsItem_4 : cX2_readsItem.data.toList.drop 108 = dktX2_readsItem_4 := dk_seg dksX2_readsItem_3 49 rfl rfl
theorem dksX2_readsItem_5 : cX2_readsItem.data.toList.drop 132 = dktX2_readsItem_5 := dk_seg dksX2_readsItem_4 24 rfl rfl
theorem dksX2_readsItem_6 : cX2_readsItem.data.toList.drop 156 = dktX2_readsItem_6 := dk_seg dksX2_readsItem_5 24 rfl rfl
theorem dX2_readsItem_0 : decode cX2_readsItem 0 = .ok (.aload_n 0, 1) := dk_42 (dk_at dksX2_readsItem_0 0 rfl rfl)
theorem dX2_readsItem_1 : decode cX2_readsItem 1 = .ok (.invokevirtual 48, 3) := dk_182 0 48 (dk_at dksX2_readsItem_0 1 rfl rfl)
theorem dX2_readsItem_4 : decode cX2_readsItem 4 = .ok (.istore_n 2, 1) := dk_61 (dk_at dksX2_readsItem_0 4 rfl rfl)
theorem dX2_readsItem_5 : decode cX2_readsItem 5 = .ok (.iload_n 2, 1) := dk_28 (dk_at dksX2_readsItem_0 5 rfl rfl)
theorem dX2_readsItem_6 : decode cX2_readsItem 6 = .ok (.invokestatic 88, 3) := dk_184 0 88 (dk_at dksX2_readsItem_0 6 rfl rfl)
theorem dX2_readsItem_9 : decode cX2_readsItem 9 = .ok (.ifCond .ne 5, 3) := dk_154 0 5 (dk_at dksX2_readsItem_0 9 rfl rfl)
theorem dX2_readsItem_12 : decode cX2_readsItem 12 = .ok (.iconst 0, 1) := dk_3 (dk_at dksX2_readsItem_0 12 rfl rfl)
theorem dX2_readsItem_13 : decode cX2_readsItem 13 = .ok (.ireturn, 1) := dk_172 (dk_at dksX2_readsItem_0 13 rfl rfl)
theorem dX2_readsItem_14 : decode cX2_readsItem 14 = .ok (.aload_n 0, 1) := dk_42 (dk_at dksX2_readsItem_0 14 rfl rfl)
theorem dX2_readsItem_15 : decode cX2_readsItem 15 = .ok (.getfield 91, 3) := dk_180 0 91 (dk_at dksX2_readsItem_0 15 rfl rfl)
theorem dX2_readsItem_18 : decode cX2_readsItem 18 = .ok (.bipush 24, 2) := dk_16 24 (dk_at dksX2_readsItem_0 18 rfl rfl)
theorem dX2_readsItem_20 : decode cX2_readsItem 20 = .ok (.if_icmp .eq 23, 3) := dk_159 0 23 (dk_at dksX2_readsItem_0 20 rfl rfl)
theorem dX2_readsItem_23 : decode cX2_readsItem 23 = .ok (.iload_n 2, 1) := dk_28 (dk_at dksX2_readsItem_0 23 rfl rfl)
theorem dX2_readsItem_24 : decode cX2_readsItem 24 = .ok (.bipush 91, 2) := dk_16 91 (dk_at dksX2_readsItem_1 0 rfl rfl)
theorem dX2_readsItem_26 : decode cX2_readsItem 26 = .ok (.if_icmp .eq 9, 3) := dk_159 0 9 (dk_at dksX2_readsItem_1 2 rfl rfl)
theorem dX2_readsItem_29 : decode cX2_readsItem 29 = .ok (.iload_n 2, 1) := dk_28 (dk_at dksX2_readsItem_1 5 rfl rfl)
theorem dX2_readsItem_30 : decode cX2_readsItem 30 = .ok (.bipush 40, 2) := dk_16 40 (dk_at dksX2_readsItem_1 6 rfl rfl)
theorem dX2_readsItem_32 : decode cX2_readsItem 32 = .ok (.if_icmp .ne 16, 3) := dk_160 0 16 (dk_at dksX2_readsItem_1 8 rfl rfl)
theorem dX2_readsItem_35 : decode cX2_readsItem 35 = .ok (.aload_n 0, 1) := dk_42 (dk_at dksX2_readsItem_1 11 rfl rfl)
theorem dX2_readsItem_36 : decode cX2_readsItem 36 = .ok (.getfield 94, 3) := dk_180 0 94 (dk_at dksX2_readsItem_1 12 rfl rfl)
theorem dX2_readsItem_39 : decode cX2_readsItem 39 = .ok (.iconst 4, 1) := dk_7 (dk_at dksX2_readsItem_1 15 rfl rfl)
theorem dX2_readsItem_40 : decode cX2_readsItem 40 = .ok (.if_icmp .ne 8, 3) := dk_160 0 8 (dk_at dksX2_readsItem_1 16 rfl rfl)
theorem dX2_readsItem_43 : decode cX2_readsItem 43 = .ok (.aload_n 0, 1) := dk_42 (dk_at dksX2_readsItem_1 19 rfl rfl)
theorem dX2_readsItem_44 : decode cX2_readsItem 44 = .ok (.invokevirtual 97, 3) := dk_182 0 97 (dk_at dksX2_readsItem_1 20 rfl rfl)
theorem dX2_readsItem_47 : decode cX2_readsItem 47 = .ok (.ireturn, 1) := dk_172 (dk_at dksX2_readsItem_1 23 rfl rfl)
theorem dX2_readsItem_48 : decode cX2_readsItem 48 = .ok (.aload_n 0, 1) := dk_42 (dk_at dksX2_readsItem_2 0 rfl rfl)
theorem dX2_readsItem_49 : decode cX2_readsItem 49 = .ok (.dup, 1) := dk_89 (dk_at dksX2_readsItem_2 1 rfl rfl)
theorem dX2_readsItem_50 : decode cX2_readsItem 50 = .ok (.getfield 91, 3) := dk_180 0 91 (dk_at dksX2_readsItem_2 2 rfl rfl)
theorem dX2_readsItem_53 : decode cX2_readsItem 53 = .ok (.iconst 1, 1) := dk_4 (dk_at dksX2_readsItem_2 5 rfl rfl)
theorem dX2_readsItem_54 : decode cX2_readsItem 54 = .ok (.iadd, 1) := dk_96 (dk_at dksX2_readsItem_2 6 rfl rfl)
theorem dX2_readsItem_55 : decode cX2_readsItem 55 = .ok (.putfield 91, 3) := dk_181 0 91 (dk_at dksX2_readsItem_2 7 rfl rfl)
theorem dX2_readsItem_58 : decode cX2_readsItem 58 = .ok (.iload_n 2, 1) := dk_28 (dk_at dksX2_readsItem_2 10 rfl rfl)
theorem dX2_readsItem_59 : decode cX2_readsItem 59 = .ok (.lookupswitch 104 #[(91, 93), (115, 71), (116, 49), (119, 60), (120, 82)], 49) := by decide +kernel
theorem dX2_readsItem_108 : decode cX2_readsItem 108 = .ok (.aload_n 0, 1) := dk_42 (dk_at dksX2_readsItem_4 0 rfl rfl)
theorem dX2_readsItem_109 : decode cX2_readsItem 109 = .ok (.aload_n 0, 1) := dk_42 (dk_at dksX2_readsItem_4 1 rfl rfl)
theorem dX2_readsItem_110 : decode cX2_readsItem 110 = .ok (.iconst 1, 1) := dk_4 (dk_at dksX2_readsItem_4 2 rfl rfl)
theorem dX2_readsItem_111 : decode cX2_readsItem 111 = .ok (.iload_n 1, 1) := dk_27 (dk_at dksX2_readsItem_4 3 rfl rfl)
theorem dX2_readsItem_112 : decode cX2_readsItem 112 = .ok (.invokevirtual 81, 3) := dk_182 0 81 (dk_at dksX2_readsItem_4 4 rfl rfl)
theorem dX2_readsItem_115 : decode cX2_readsItem 115 = .ok (.invokevirtual 100, 3) := dk_182 0 100 (dk_at dksX2_readsItem_4 7 rfl rfl)
theorem dX2_readsItem_118 : decode cX2_readsItem 118 = .ok (.ireturn, 1) := dk_172 (dk_at dksX2_readsItem_4 10 rfl rfl)
theorem dX2_readsItem_119 : decode cX2_readsItem 119 = .ok (.aload_n 0, 1) := dk_42 (dk_at dksX2_readsItem_4 11 rfl rfl)
theorem dX2_readsItem_120 : decode cX2_readsItem 120 = .ok (.aload_n 0, 1) := dk_42 (dk_at dksX2_readsItem_4 12 rfl rfl)
theorem dX2_readsItem_121 : decode cX2_readsItem 121 = .ok (.iconst 2, 1) := dk_5 (dk_at dksX2_readsItem_4 13 rfl rfl)
theorem dX2_readsItem_122 : decode cX2_readsItem 122 = .ok (.iload_n 1, 1) := dk_27 (dk_at dksX2_readsItem_4 14 rfl rfl)
theorem dX2_readsItem_123 : decode cX2_readsItem 123 = .ok (.invokevirtual 81, 3) := dk_182 0 81 (dk_at dksX2_readsItem_4 15 rfl rfl)
theorem dX2_readsItem_126 : decode cX2_readsItem 126 = .ok (.invokevirtual 103, 3) := dk_182 0 103 (dk_at dksX2_readsItem_4 18 rfl rfl)
theorem dX2_readsItem_129 : decode cX2_readsItem 129 = .ok (.ireturn, 1) := dk_172 (dk_at dksX2_readsItem_4 21 rfl rfl)
theorem dX2_readsItem_130 : decode cX2_readsItem 130 = .ok (.aload_n 0, 1) := dk_42 (dk_at dksX2_readsItem_4 22 rfl rfl)
theorem dX2_readsItem_131 : decode cX2_readsItem 131 = .ok (.aload_n 0, 1) := dk_42 (dk_at dksX2_readsItem_4 23 rfl rfl)
theorem dX2_readsItem_132 : decode cX2_readsItem 132 = .ok (.iconst 3, 1) := dk_6 (dk_at dksX2_readsItem_5 0 rfl rfl)
theorem dX2_readsItem_133 : decode cX2_readsItem 133 = .ok (.iload_n 1, 1) := dk_27 (dk_at dksX2_readsItem_5 1 rfl rfl)
theorem dX2_readsItem_134 : decode cX2_readsItem 134 = .ok (.invokevirtual 81, 3) := dk_182 0 81 (dk_at dksX2_readsItem_5 2 rfl rfl)
theorem dX2_readsItem_137 : decode cX2_readsItem 137 = .ok (.invokevirtual 106, 3) := dk_182 0 106 (dk_at dksX2_readsItem_5 5 rfl rfl)
theorem dX2_readsItem_140 : decode cX2_readsItem 140 = .ok (.ireturn, 1) := dk_172 (dk_at dksX2_readsItem_5 8 rfl rfl)
theorem dX2_readsItem_141 : decode cX2_readsItem 141 = .ok (.aload_n 0, 1) := dk_42 (dk_at dksX2_readsItem_5 9 rfl rfl)
theorem dX2_readsItem_142 : decode cX2_readsItem 142 = .ok (.aload_n 0, 1) := dk_42 (dk_at dksX2_readsItem_5 10 rfl rfl)
theorem dX2_readsItem_143 : decode cX2_readsItem 143 = .ok (.iconst 4, 1) := dk_7 (dk_at dksX2_readsItem_5 11 rfl rfl)
theorem dX2_readsItem_144 : decode cX2_readsItem 144 = .ok (.iload_n 1, 1) := dk_27 (dk_at dksX2_readsItem_5 12 rfl rfl)
theorem dX2_readsItem_145 : decode cX2_readsItem 145 = .ok (.invokevirtual 81, 3) := dk_182 0 81 (dk_at dksX2_readsItem_5 13 rfl rfl)
theorem dX2_readsItem_148 : decode cX2_readsItem 148 = .ok (.invokevirtual 109, 3) := dk_182 0 109 (dk_at dksX2_readsItem_5 16 rfl rfl)
theorem dX2_readsItem_151 : decode cX2_readsItem 151 = .ok (.ireturn, 1) := dk_172 (dk_at dksX2_readsItem_5 19 rfl rfl)
theorem dX2_readsItem_152 : decode cX2_readsItem 152 = .ok (.aload_n 0, 1) := dk_42 (dk_at dksX2_readsItem_5 20 rfl rfl)
theorem dX2_readsItem_153 : decode cX2_readsItem 153 = .ok (.aload_n 0, 1) := dk_42 (dk_at dksX2_readsItem_5 21 rfl rfl)
theorem dX2_readsItem_154 : decode cX2_readsItem 154 = .ok (.iconst 5, 1) := dk_8 (dk_at dksX2_readsItem_5 22 rfl rfl)
theorem dX2_readsItem_155 : decode cX2_readsItem 155 = .ok (.iload_n 1, 1) := dk_27 (dk_at dksX2_readsItem_5 23 rfl rfl)
theorem dX2_readsItem_156 : decode cX2_readsItem 156 = .ok (.invokevirtual 81, 3) := dk_182 0 81 (dk_at dksX2_readsItem_6 0 rfl rfl)
theorem dX2_readsItem_159 : decode cX2_readsItem 159 = .ok (.invokevirtual 112, 3) := dk_182 0 112 (dk_at dksX2_readsItem_6 3 rfl rfl)
theorem dX2_readsItem_162 : decode cX2_readsItem 162 = .ok (.ireturn, 1) := dk_172 (dk_at dksX2_readsItem_6 6 rfl rfl)
theorem dX2_readsItem_163 : decode cX2_readsItem 163 = .ok (.aload_n 0, 1) := dk_42 (dk_at dksX2_readsItem_6 7 rfl rfl)
theorem dX2_readsItem_164 : decode cX2_readsItem 164 = .ok (.aload_n 0, 1) := dk_42 (dk_at dksX2_readsItem_6 8 rfl rfl)
theorem dX2_readsItem_165 : decode cX2_readsItem 165 = .ok (.bipush 6, 2) := dk_16 6 (dk_at dksX2_readsItem_6 9 rfl rfl)
theorem dX2_readsItem_167 : decode cX2_readsItem 167 = .ok (.iload_n 1, 1) := dk_27 (dk_at dksX2_readsItem_6 11 rfl rfl)
theorem dX2_readsItem_168 : decode cX2_readsItem 168 = .ok (.invokevirtual 81, 3) := dk_182 0 81 (dk_at dksX2_readsItem_6 12 rfl rfl)
theorem dX2_readsItem_171 : decode cX2_readsItem 171 = .ok (.invokevirtual 115, 3) := dk_182 0 115 (dk_at dksX2_readsItem_6 15 rfl rfl)
theorem dX2_readsItem_174 : decode cX2_readsItem 174 = .ok (.ireturn, 1) := dk_172 (dk_at dksX2_readsItem_6 18 rfl rfl)
theorem fl_X2_91_2 : gFL RX2 91 2 15 := gFL.mk (Cn := RX2) (T := TX2) (N := 21) (ref := "WorkflowEngineModel") rfl in_X2 (by decide) q1609 rfl rfl (Or.inl rfl)
theorem hd_X2_isTooMuch : (yX2_isTooMuch.cls ≠ "java/lang/invoke/MethodHandle" ∧ yX2_isTooMuch.cls ≠ "java/lang/invoke/VarHandle" ∧ (parseMethodDescriptor yX2_isTooMuch.desc).map (fun d => d.parameters.length) = some 0) := ⟨by decide +kernel, by decide +kernel, by decide +kernel⟩
theorem fk_2_15 : gFk 2 15 "I" false "WorkflowEngineModel" := fun Cn T N h => by
  have h : (RX2, TX2, 21) = (Cn, T, N) := Option.some.inj h
  cases h
  exact ⟨rfl, rfl, rfl⟩
theorem hd_X2_makes : (yX2_makes.cls ≠ "java/lang/invoke/MethodHandle" ∧ yX2_makes.cls ≠ "java/lang/invoke/VarHandle" ∧ (parseMethodDescriptor yX2_makes.desc).map (fun d => d.parameters.length) = some 2) := ⟨by decide +kernel, by decide +kernel, by decide +kernel⟩
theorem hd_X2_readsChoice : (yX2_readsChoice.cls ≠ "java/lang/invoke/MethodHandle" ∧ yX2_readsChoice.cls ≠ "java/lang/invoke/VarHandle" ∧ (parseMethodDescriptor yX2_readsChoice.desc).map (fun d => d.parameters.length) = some 1) := ⟨by decide +kernel, by decide +kernel, by decide +kernel⟩
theorem hd_X2_readsSignal : (yX2_readsSignal.cls ≠ "java/lang/invoke/MethodHandle" ∧ yX2_readsSignal.cls ≠ "java/lang/invoke/VarHandle" ∧ (parseMethodDescriptor yX2_readsSignal.desc).map (fun d => d.parameters.length) = some 1) := ⟨by decide +kernel, by decide +kernel, by decide +kernel⟩
theorem hd_X2_readsTask : (yX2_readsTask.cls ≠ "java/lang/invoke/MethodHandle" ∧ yX2_readsTask.cls ≠ "java/lang/invoke/VarHandle" ∧ (parseMethodDescriptor yX2_readsTask.desc).map (fun d => d.parameters.length) = some 1) := ⟨by decide +kernel, by decide +kernel, by decide +kernel⟩
theorem hd_X2_readsWait : (yX2_readsWait.cls ≠ "java/lang/invoke/MethodHandle" ∧ yX2_readsWait.cls ≠ "java/lang/invoke/VarHandle" ∧ (parseMethodDescriptor yX2_readsWait.desc).map (fun d => d.parameters.length) = some 1) := ⟨by decide +kernel, by decide +kernel, by decide +kernel⟩
theorem hd_X2_readsSet : (yX2_readsSet.cls ≠ "java/lang/invoke/MethodHandle" ∧ yX2_readsSet.cls ≠ "java/lang/invoke/VarHandle" ∧ (parseMethodDescriptor yX2_readsSet.desc).map (fun d => d.parameters.length) = some 1) := ⟨by decide +kernel, by decide +kernel, by decide +kernel⟩
theorem hd_X2_readsParallel : (yX2_readsParallel.cls ≠ "java/lang/invoke/MethodHandle" ∧ yX2_readsParallel.cls ≠ "java/lang/invoke/VarHandle" ∧ (parseMethodDescriptor yX2_readsParallel.desc).map (fun d => d.parameters.length) = some 1) := ⟨by decide +kernel, by decide +kernel, by decide +kernel⟩
def t_X2_readsItem (rec : Int32 → Int32 → TS → Option (Int32 × TS)) (p1 : Int32) (w0 : TS) : Option (Int32 × TS) := gB2 (t_X2_here  w0) fun x2 w1 => gB2 (t_X2_beginsItem x2 w1) fun x4 w3 => if x4 = 0 then some ((nI 0), w3) else gBd (fun (w7 : TS) => gB2 (t_X2_isTooMuch  w7) fun x9 w8 => gB1 (gZ x9) fun _ => some (x9, w8)) fun k6 => if (w3 0 15) = (nI 24) then k6 w3 else gBd (fun (x13 : Int32) (x14 : Int32) (w12 : TS) => gBd (tPut w12 15 ((w12 0 15) + (nI 1))) fun w15 => if x14 = (nI 91) then gB2 (t_X2_makes (nI 5) x13 w15) fun x17 w16 => gB2 (t_X2_readsChoice rec x17 w16) fun x19 w18 => gB1 (gZ x19) fun _ => some (x19, w18) else if x14 = (nI 115) then gB2 (t_X2_makes (nI 3) x13 w15) fun x21 w20 => gB2 (t_X2_readsSignal x21 w20) fun x23 w22 => gB1 (gZ x23) fun _ => some (x23, w22) else if x14 = (nI 116) then gB2 (t_X2_makes (nI 1) x13 w15) fun x25 w24 => gB2 (t_X2_readsTask x25 w24) fun x27 w26 => gB1 (gZ x27) fun _ => some (x27, w26) else if x14 = (nI 119) then gB2 (t_X2_makes (nI 2) x13 w15) fun x29 w28 => gB2 (t_X2_readsWait x29 w28) fun x31 w30 => gB1 (gZ x31) fun _ => some (x31, w30) else if x14 = (nI 120) then gB2 (t_X2_makes (nI 4) x13 w15) fun x33 w32 => gB2 (t_X2_readsSet x33 w32) fun x35 w34 => gB1 (gZ x35) fun _ => some (x35, w34) else gB2 (t_X2_makes (nI 6) x13 w15) fun x37 w36 => gB2 (t_X2_readsParallel rec x37 w36) fun x39 w38 => gB1 (gZ x39) fun _ => some (x39, w38)) fun k11 => gBd (fun (x42 : Int32) (x43 : Int32) (w41 : TS) => if (w41 0 16) = (nI 4) then k6 w41 else k11 x42 x43 w41) fun k40 => if x2 = (nI 91) then k40 p1 x2 w3 else if x2 = (nI 40) then k40 p1 x2 w3 else k11 p1 x2 w3
set_option maxHeartbeats 4000000 in
set_option maxRecDepth 100000 in
theorem kt_X2_readsItem {D : va_G} {dA : Nat → ClassId} {A : Nat → Prop} {K : Nat → Nat} {l : Launch} {wb : gw} {ad : Nat → Nat} (hinj : tInj ad) {h : Nat} {rec : Int32 → Int32 → TS → Option (Int32 × TS)} {B : Nat} (hrec : ∀ {h : Nat}, B ≤ h → ∀ {p1 : Int32} {p2 : Int32} {w0 ww : TS} {rr : Int32}, rec p1 p2 w0 = some (rr, ww) → gMet D dA A K l yX2_readsBody (ws_ yX2_readsBody cX2_readsBody 6 (some .boolean)) h [(ga (some (ad 0))), (gi p1), (gi p2)] (some (gi rr)) (twOf wb ad w0) (twOf wb ad ww)) (hb : 5 ≤ B) (hh : B + 2 ≤ h) {p1 : Int32} {w0 ww : TS} {rr : Int32} (hf : t_X2_readsItem rec p1 w0 = some (rr, ww)) : gMet D dA A K l yX2_readsItem (ws_ yX2_readsItem cX2_readsItem 3 (some .boolean)) h [(ga (some (ad 0))), (gi p1)] (some (gi rr)) (twOf wb ad w0) (twOf wb ad ww) := by
  refine j_start (own := RX2) (by decide +kernel) rfl (Nat.le_of_ble_eq_true rfl) ?_
  intro p e R s m args below meth c C hr hin hw
  unfold t_X2_readsItem at hf
  show gJ D dA A K p l e R s m args below meth c (gEnd D dA A K below args s (twOf wb ad w0) (some (gi rr)) (twOf wb ad ww)) 3 0 [(0, (ga (some (ad 0)))), (1, (gi p1))] [] (twOf wb ad w0)
  refine j_aload_n C dX2_readsItem_0 rfl ?_
  replace hf := gB2_e hf
  obtain ⟨x2, w1, ew1, hf⟩ := hf
  refine j_callV (As := []) (rest := []) (v := (some (gi x2))) C (by omega) (kt_X2_here hinj (by omega) ew1) (tw_cls hinj) rfl q1691 q1693 qs38 q93 q1694 ⟨rfl, hd_X2_here⟩ (by decide) rfl (Nat.le_of_ble_eq_true rfl) dX2_readsItem_1 ?_
  refine j_istore_n (lv' := [(2, (gi x2)), (0, (ga (some (ad 0)))), (1, (gi p1))]) C dX2_readsItem_4 (by decide) rfl ?_
  refine j_iload_n C dX2_readsItem_5 rfl ?_
  replace hf := gB2_e hf
  obtain ⟨x4, w3, ew3, hf⟩ := hf
  refine j_callS (As := [(gi x2)]) (rest := []) (v := (some (gi x4))) C (by omega) (kt_X2_beginsItem hinj (by omega) ew3) q1695 q1696 q93 q1697 hd_X2_beginsItem (by decide) rfl (Nat.le_of_ble_eq_true rfl) dX2_readsItem_6 ?_
  refine j_if_ne (tgt := 14) C dX2_readsItem_9 (by decide) (fun c5 => ?_) (fun c5 => ?_)
  · replace hf := gIf_f hf c5
    refine j_aload_n C dX2_readsItem_14 rfl ?_
    refine j_get (v := (gi (w3 0 15))) C fl_X2_91_2 dX2_readsItem_15 (tw_F hinj rfl) ?_
    refine j_bipush (v := (nI 24)) C dX2_readsItem_18 (by decide) ?_
    replace hf := gBd_x hf
    obtain ⟨k6, ek6, hf⟩ := hf
    have jk6 : ∀ (w7 : TS), k6 w7 = some (rr, ww) → gJ D dA A K p l e R s m args below meth c (gEnd D dA A K below args s (twOf wb ad w0) (some (gi rr)) (twOf wb ad ww)) 3 43 [(0, (ga (some (ad 0))))] [] (twOf wb ad w7) := by
      intro w7 hf
      rw [ek6] at hf
      dsimp only at hf
      refine j_aload_n C dX2_readsItem_43 rfl ?_
      replace hf := gB2_e hf
      obtain ⟨x9, w8, ew8, hf⟩ := hf
      refine j_callV (As := []) (rest := []) (v := (some (gi x9))) C (by omega) (kt_X2_isTooMuch hinj (by omega) ew8) (tw_cls hinj) rfl q1698 q1700 qs39 q93 q1701 ⟨rfl, hd_X2_isTooMuch⟩ (by decide) rfl (Nat.le_of_ble_eq_true rfl) dX2_readsItem_44 ?_
      replace hf := gB1_e hf
      obtain ⟨_, ez, hf⟩ := hf
      obtain ⟨rfl, rfl⟩ := gSome hf
      exact j_zret C hr (gZ_n (gZ_e ez)) hw dX2_readsItem_47
    clear ek6
    refine j_icmp_eq (tgt := 43) C dX2_readsItem_20 (by decide) (fun c10 => ?_) (fun c10 => ?_)
    · replace hf := gIf_t hf c10
      refine j_sub (lv' := [(0, (ga (some (ad 0))))]) (gL_cons rfl (gL_nil)) ?_
      exact jk6 _ hf
    · replace hf := gIf_f hf c10
      refine j_iload_n C dX2_readsItem_23 rfl ?_
      refine j_bipush (v := (nI 91)) C dX2_readsItem_24 (by decide) ?_
      replace hf := gBd_x hf
      obtain ⟨k11, ek11, hf⟩ := hf
      have jk11 : ∀ (x13 : Int32) (x14 : Int32) (w12 : TS), k11 x13 x14 w12 = some (rr, ww) → gJ D dA A K p l e R s m args below meth c (gEnd D dA A K below args s (twOf wb ad w0) (some (gi rr)) (twOf wb ad ww)) 3 48 [(0, (ga (some (ad 0)))), (1, (gi x13)), (2, (gi x14))] [] (twOf wb ad w12) := by
        intro x13 x14 w12 hf
        rw [ek11] at hf
        dsimp only at hf
        refine j_aload_n C dX2_readsItem_48 rfl ?_
        refine j_dup C dX2_readsItem_49 ?_
        refine j_get (v := (gi (w12 0 15))) C fl_X2_91_2 dX2_readsItem_50 (tw_F hinj rfl) ?_
        refine j_iconst (v := (nI 1)) C dX2_readsItem_53 (by decide) ?_
        refine j_iadd C dX2_readsItem_54 ?_
        replace hf := gBd_x hf
        obtain ⟨w15, ew15, hf⟩ := hf
        refine j_put C fl_X2_91_2 tb_2 (tw_put hinj ew15 rfl (by decide)) fk_2_15 (fit_I ((w12 0 15) + (nI 1))) dX2_readsItem_55 ?_
        refine j_iload_n C dX2_readsItem_58 rfl ?_
        by_cases n59_0 : x14 = (nI 91)
        · replace hf := gIf_t hf n59_0
          refine j_lookup (off := 93) (tgt := 152) C dX2_readsItem_59 (by decide) (by rw [n59_0]; decide) (by decide) ?_
          refine j_aload_n C dX2_readsItem_152 rfl ?_
          refine j_aload_n C dX2_readsItem_153 rfl ?_
          refine j_iconst (v := (nI 5)) C dX2_readsItem_154 (by decide) ?_
          refine j_iload_n C dX2_readsItem_155 rfl ?_
          replace hf := gB2_e hf
          obtain ⟨x17, w16, ew16, hf⟩ := hf
          refine j_callV (As := [(gi (nI 5)), (gi x13)]) (rest := [(ga (some (ad 0)))]) (v := (some (gi x17))) C (by omega) (kt_X2_makes hinj (by omega) ew16) (tw_cls hinj) rfl q1676 q1678 qs35 q93 q1679 ⟨rfl, hd_X2_makes⟩ (by decide) rfl (Nat.le_of_ble_eq_true rfl) dX2_readsItem_156 ?_
          replace hf := gB2_e hf
          obtain ⟨x19, w18, ew18, hf⟩ := hf
          refine j_callV (As := [(gi x17)]) (rest := []) (v := (some (gi x19))) C (by omega) (kt_X2_readsChoice hinj hrec hb (by omega) ew18) (tw_cls hinj) rfl q1738 q1740 qs49 q93 q1741 ⟨rfl, hd_X2_readsChoice⟩ (by decide) rfl (Nat.le_of_ble_eq_true rfl) dX2_readsItem_159 ?_
          replace hf := gB1_e hf
          obtain ⟨_, ez, hf⟩ := hf
          obtain ⟨rfl, rfl⟩ := gSome hf
          exact j_zret C hr (gZ_n (gZ_e ez)) hw dX2_readsItem_162
        · replace hf := gIf_f hf n59_0
          by_cases n59_1 : x14 = (nI 115)
          · replace hf := gIf_t hf n59_1
            refine j_lookup (off := 71) (tgt := 130) C dX2_readsItem_59 (by decide) (by rw [n59_1]; decide) (by decide) ?_
            refine j_aload_n C dX2_readsItem_130 rfl ?_
            refine j_aload_n C dX2_readsItem_131 rfl ?_
            refine j_iconst (v := (nI 3)) C dX2_readsItem_132 (by decide) ?_
            refine j_iload_n C dX2_readsItem_133 rfl ?_
            replace hf := gB2_e hf
            obtain ⟨x21, w20, ew20, hf⟩ := hf
            refine j_callV (As := [(gi (nI 3)), (gi x13)]) (rest := [(ga (some (ad 0)))]) (v := (some (gi x21))) C (by omega) (kt_X2_makes hinj (by omega) ew20) (tw_cls hinj) rfl q1676 q1678 qs35 q93 q1679 ⟨rfl, hd_X2_makes⟩ (by decide) rfl (Nat.le_of_ble_eq_true rfl) dX2_readsItem_134 ?_
            replace hf := gB2_e hf
            obtain ⟨x23, w22, ew22, hf⟩ := hf
            refine j_callV (As := [(gi x21)]) (rest := []) (v := (some (gi x23))) C (by omega) (kt_X2_readsSignal hinj (by omega) ew22) (tw_cls hinj) rfl q1726 q1728 qs46 q93 q1729 ⟨rfl, hd_X2_readsSignal⟩ (by decide) rfl (Nat.le_of_ble_eq_true rfl) dX2_readsItem_137 ?_
            replace hf := gB1_e hf
            obtain ⟨_, ez, hf⟩ := hf
            obtain ⟨rfl, rfl⟩ := gSome hf
            exact j_zret C hr (gZ_n (gZ_e ez)) hw dX2_readsItem_140
          · replace hf := gIf_f hf n59_1
            by_cases n59_2 : x14 = (nI 116)
            · replace hf := gIf_t hf n59_2
              refine j_lookup (off := 49) (tgt := 108) C dX2_readsItem_59 (by decide) (by rw [n59_2]; decide) (by decide) ?_
              refine j_aload_n C dX2_readsItem_108 rfl ?_
              refine j_aload_n C dX2_readsItem_109 rfl ?_
              refine j_iconst (v := (nI 1)) C dX2_readsItem_110 (by decide) ?_
              refine j_iload_n C dX2_readsItem_111 rfl ?_
              replace hf := gB2_e hf
              obtain ⟨x25, w24, ew24, hf⟩ := hf
              refine j_callV (As := [(gi (nI 1)), (gi x13)]) (rest := [(ga (some (ad 0)))]) (v := (some (gi x25))) C (by omega) (kt_X2_makes hinj (by omega) ew24) (tw_cls hinj) rfl q1676 q1678 qs35 q93 q1679 ⟨rfl, hd_X2_makes⟩ (by decide) rfl (Nat.le_of_ble_eq_true rfl) dX2_readsItem_112 ?_
              replace hf := gB2_e hf
              obtain ⟨x27, w26, ew26, hf⟩ := hf
              refine j_callV (As := [(gi x25)]) (rest := []) (v := (some (gi x27))) C (by omega) (kt_X2_readsTask hinj (by omega) ew26) (tw_cls hinj) rfl q1702 q1704 qs40 q93 q1705 ⟨rfl, hd_X2_readsTask⟩ (by decide) rfl (Nat.le_of_ble_eq_true rfl) dX2_readsItem_115 ?_
              replace hf := gB1_e hf
              obtain ⟨_, ez, hf⟩ := hf
              obtain ⟨rfl, rfl⟩ := gSome hf
              exact j_zret C hr (gZ_n (gZ_e ez)) hw dX2_readsItem_118
            · replace hf := gIf_f hf n59_2
              by_cases n59_3 : x14 = (nI 119)
              · replace hf := gIf_t hf n59_3
                refine j_lookup (off := 60) (tgt := 119) C dX2_readsItem_59 (by decide) (by rw [n59_3]; decide) (by decide) ?_
                refine j_aload_n C dX2_readsItem_119 rfl ?_
                refine j_aload_n C dX2_readsItem_120 rfl ?_
                refine j_iconst (v := (nI 2)) C dX2_readsItem_121 (by decide) ?_
                refine j_iload_n C dX2_readsItem_122 rfl ?_
                replace hf := gB2_e hf
                obtain ⟨x29, w28, ew28, hf⟩ := hf
                refine j_callV (As := [(gi (nI 2)), (gi x13)]) (rest := [(ga (some (ad 0)))]) (v := (some (gi x29))) C (by omega) (kt_X2_makes hinj (by omega) ew28) (tw_cls hinj) rfl q1676 q1678 qs35 q93 q1679 ⟨rfl, hd_X2_makes⟩ (by decide) rfl (Nat.le_of_ble_eq_true rfl) dX2_readsItem_123 ?_
                replace hf := gB2_e hf
                obtain ⟨x31, w30, ew30, hf⟩ := hf
                refine j_callV (As := [(gi x29)]) (rest := []) (v := (some (gi x31))) C (by omega) (kt_X2_readsWait hinj (by omega) ew30) (tw_cls hinj) rfl q1722 q1724 qs45 q93 q1725 ⟨rfl, hd_X2_readsWait⟩ (by decide) rfl (Nat.le_of_ble_eq_true rfl) dX2_readsItem_126 ?_
                replace hf := gB1_e hf
                obtain ⟨_, ez, hf⟩ := hf
                obtain ⟨rfl, rfl⟩ := gSome hf
                exact j_zret C hr (gZ_n (gZ_e ez)) hw dX2_readsItem_129
              · replace hf := gIf_f hf n59_3
                by_cases n59_4 : x14 = (nI 120)
                · replace hf := gIf_t hf n59_4
                  refine j_lookup (off := 82) (tgt := 141) C dX2_readsItem_59 (by decide) (by rw [n59_4]; decide) (by decide) ?_
                  refine j_aload_n C dX2_readsItem_141 rfl ?_
                  refine j_aload_n C dX2_readsItem_142 rfl ?_
                  refine j_iconst (v := (nI 4)) C dX2_readsItem_143 (by decide) ?_
                  refine j_iload_n C dX2_readsItem_144 rfl ?_
                  replace hf := gB2_e hf
                  obtain ⟨x33, w32, ew32, hf⟩ := hf
                  refine j_callV (As := [(gi (nI 4)), (gi x13)]) (rest := [(ga (some (ad 0)))]) (v := (some (gi x33))) C (by omega) (kt_X2_makes hinj (by omega) ew32) (tw_cls hinj) rfl q1676 q1678 qs35 q93 q1679 ⟨rfl, hd_X2_makes⟩ (by decide) rfl (Nat.le_of_ble_eq_true rfl) dX2_readsItem_145 ?_
                  replace hf := gB2_e hf
                  obtain ⟨x35, w34, ew34, hf⟩ := hf
                  refine j_callV (As := [(gi x33)]) (rest := []) (v := (some (gi x35))) C (by omega) (kt_X2_readsSet hinj (by omega) ew34) (tw_cls hinj) rfl q1730 q1732 qs47 q93 q1733 ⟨rfl, hd_X2_readsSet⟩ (by decide) rfl (Nat.le_of_ble_eq_true rfl) dX2_readsItem_148 ?_
                  replace hf := gB1_e hf
                  obtain ⟨_, ez, hf⟩ := hf
                  obtain ⟨rfl, rfl⟩ := gSome hf
                  exact j_zret C hr (gZ_n (gZ_e ez)) hw dX2_readsItem_151
                · replace hf := gIf_f hf n59_4
                  refine j_lookup (off := 104) (tgt := 163) C dX2_readsItem_59 (by decide) ((lv_osw n59_0 (by decide)).trans ((lv_osw n59_1 (by decide)).trans ((lv_osw n59_2 (by decide)).trans ((lv_osw n59_3 (by decide)).trans ((lv_osw n59_4 (by decide)).trans (rfl)))))) (by decide) ?_
                  refine j_aload_n C dX2_readsItem_163 rfl ?_
                  refine j_aload_n C dX2_readsItem_164 rfl ?_
                  refine j_bipush (v := (nI 6)) C dX2_readsItem_165 (by decide) ?_
                  refine j_iload_n C dX2_readsItem_167 rfl ?_
                  replace hf := gB2_e hf
                  obtain ⟨x37, w36, ew36, hf⟩ := hf
                  refine j_callV (As := [(gi (nI 6)), (gi x13)]) (rest := [(ga (some (ad 0)))]) (v := (some (gi x37))) C (by omega) (kt_X2_makes hinj (by omega) ew36) (tw_cls hinj) rfl q1676 q1678 qs35 q93 q1679 ⟨rfl, hd_X2_makes⟩ (by decide) rfl (Nat.le_of_ble_eq_true rfl) dX2_readsItem_168 ?_
                  replace hf := gB2_e hf
                  obtain ⟨x39, w38, ew38, hf⟩ := hf
                  refine j_callV (As := [(gi x37)]) (rest := []) (v := (some (gi x39))) C (by omega) (kt_X2_readsParallel hinj hrec hb (by omega) ew38) (tw_cls hinj) rfl q1747 q1749 qs51 q93 q1750 ⟨rfl, hd_X2_readsParallel⟩ (by decide) rfl (Nat.le_of_ble_eq_true rfl) dX2_readsItem_171 ?_
                  replace hf := gB1_e hf
                  obtain ⟨_, ez, hf⟩ := hf
                  obtain ⟨rfl, rfl⟩ := gSome hf
                  exact j_zret C hr (gZ_n (gZ_e ez)) hw dX2_readsItem_174
      clear ek11
      replace hf := gBd_x hf
      obtain ⟨k40, ek40, hf⟩ := hf
      have jk40 : ∀ (x42 : Int32) (x43 : Int32) (w41 : TS), k40 x42 x43 w41 = some (rr, ww) → gJ D dA A K p l e R s m args below meth c (gEnd D dA A K below args s (twOf wb ad w0) (some (gi rr)) (twOf wb ad ww)) 3 35 [(0, (ga (some (ad 0)))), (1, (gi x42)), (2, (gi x43))] [] (twOf wb ad w41) := by
        intro x42 x43 w41 hf
        rw [ek40] at hf
        dsimp only at hf
        refine j_aload_n C dX2_readsItem_35 rfl ?_
        refine j_get (v := (gi (w41 0 16))) C fl_X2_94_2 dX2_readsItem_36 (tw_F hinj rfl) ?_
        refine j_iconst (v := (nI 4)) C dX2_readsItem_39 (by decide) ?_
        refine j_icmp_ne (tgt := 48) C dX2_readsItem_40 (by decide) (fun c44 => ?_) (fun c44 => ?_)
        · replace hf := gIf_f hf c44
          exact jk11 _ _ _ hf
        · replace hf := gIf_t hf c44
          refine j_sub (lv' := [(0, (ga (some (ad 0))))]) (gL_cons rfl (gL_nil)) ?_
          exact jk6 _ hf
      clear ek40
      refine j_icmp_eq (tgt := 35) C dX2_readsItem_26 (by decide) (fun c45 => ?_) (fun c45 => ?_)
      · replace hf := gIf_t hf c45
        refine j_sub (lv' := [(0, (ga (some (ad 0)))), (1, (gi p1)), (2, (gi x2))]) (gL_cons rfl (gL_cons rfl (gL_cons rfl (gL_nil)))) ?_
        exact jk40 _ _ _ hf
      · replace hf := gIf_f hf c45
        refine j_iload_n C dX2_readsItem_29 rfl ?_
        refine j_bipush (v := (nI 40)) C dX2_readsItem_30 (by decide) ?_
        refine j_icmp_ne (tgt := 48) C dX2_readsItem_32 (by decide) (fun c46 => ?_) (fun c46 => ?_)
        · replace hf := gIf_f hf c46
          refine j_sub (lv' := [(0, (ga (some (ad 0)))), (1, (gi p1)), (2, (gi x2))]) (gL_cons rfl (gL_cons rfl (gL_cons rfl (gL_nil)))) ?_
          exact jk11 _ _ _ hf
        · replace hf := gIf_t hf c46
          refine j_sub (lv' := [(0, (ga (some (ad 0)))), (1, (gi p1)), (2, (gi x2))]) (gL_cons rfl (gL_cons rfl (gL_cons rfl (gL_nil)))) ?_
          exact jk40 _ _ _ hf
  · replace hf := gIf_t hf c5
    refine j_iconst (v := (nI 0)) C dX2_readsItem_12 (by decide) ?_
    obtain ⟨rfl, rfl⟩ := gSome hf
    exact j_zret C hr (by decide) hw dX2_readsItem_13
def dkwX2_readsBody_3 : List UInt8 := [16, 6, 21, 5, 182, 0, 74, 21, 5, 54, 4, 42, 16, 59, 182, 0, 59, 154, 255, 204, 4, 172]
abbrev dktX2_readsBody_3 : List UInt8 := dkwX2_readsBody_3 ++ []
def dkwX2_readsBody_2 : List UInt8 := [154, 0, 5, 3, 172, 21, 4, 156, 0, 14, 42, 29, 8, 21, 5, 182, 0, 74, 167, 0, 13, 42, 21, 4]
abbrev dktX2_readsBody_2 : List UInt8 := dkwX2_readsBody_2 ++ dktX2_readsBody_3
def dkwX2_readsBody_1 : List UInt8 := [155, 0, 10, 42, 27, 8, 29, 182, 0, 74, 2, 54, 4, 42, 180, 0, 71, 54, 5, 42, 29, 182, 0, 85]
abbrev dktX2_readsBody_1 : List UInt8 := dkwX2_readsBody_1 ++ dktX2_readsBody_2
def dkwX2_readsBody_0 : List UInt8 := [42, 3, 27, 182, 0, 81, 62, 28, 155, 0, 14, 42, 28, 16, 6, 29, 182, 0, 74, 167, 0, 14, 27]
abbrev dktX2_readsBody_0 : List UInt8 := dkwX2_readsBody_0 ++ dktX2_readsBody_1
theorem dksX2_readsBody_0 : cX2_readsBody.data.toList.drop 0 = dktX2_readsBody_0 := by decide +kernel
theorem dksX2_readsBody_1 : cX2_readsBody.data.toList.drop 23 = dktX2_readsBody_1 := dk_seg dksX2_readsBody_0 23 rfl rfl
theorem dksX2_readsBody_2 : cX2_readsBody.data.toList.drop 47 = dktX2_readsBody_2 := dk_seg dksX2_readsBody_1 24 rfl rfl
theorem dksX2_readsBody_3 : cX2_readsBody.data.toList.drop 71 = dktX2_readsBody_3 := dk_seg dksX2_readsBody_2 24 rfl rfl
theorem dX2_readsBody_0 : decode cX2_readsBody 0 = .ok (.aload_n 0, 1) := dk_42 (dk_at dksX2_readsBody_0 0 rfl rfl)
theorem dX2_readsBody_1 : decode cX2_readsBody 1 = .ok (.iconst 0, 1) := dk_3 (dk_at dksX2_readsBody_0 1 rfl rfl)
theorem dX2_readsBody_2 : decode cX2_readsBody 2 = .ok (.iload_n 1, 1) := dk_27 (dk_at dksX2_readsBody_0 2 rfl rfl)
theorem dX2_readsBody_3 : decode cX2_readsBody 3 = .ok (.invokevirtual 81, 3) := dk_182 0 81 (dk_at dksX2_readsBody_0 3 rfl rfl)
theorem dX2_readsBody_6 : decode cX2_readsBody 6 = .ok (.istore_n 3, 1) := dk_62 (dk_at dksX2_readsBody_0 6 rfl rfl)
theorem dX2_readsBody_7 : decode cX2_readsBody 7 = .ok (.iload_n 2, 1) := dk_28 (dk_at dksX2_readsBody_0 7 rfl rfl)
theorem dX2_readsBody_8 : decode cX2_readsBody 8 = .ok (.ifCond .lt 14, 3) := dk_155 0 14 (dk_at dksX2_readsBody_0 8 rfl rfl)
theorem dX2_readsBody_11 : decode cX2_readsBody 11 = .ok (.aload_n 0, 1) := dk_42 (dk_at dksX2_readsBody_0 11 rfl rfl)
theorem dX2_readsBody_12 : decode cX2_readsBody 12 = .ok (.iload_n 2, 1) := dk_28 (dk_at dksX2_readsBody_0 12 rfl rfl)
theorem dX2_readsBody_13 : decode cX2_readsBody 13 = .ok (.bipush 6, 2) := dk_16 6 (dk_at dksX2_readsBody_0 13 rfl rfl)
theorem dX2_readsBody_15 : decode cX2_readsBody 15 = .ok (.iload_n 3, 1) := dk_29 (dk_at dksX2_readsBody_0 15 rfl rfl)
theorem dX2_readsBody_16 : decode cX2_readsBody 16 = .ok (.invokevirtual 74, 3) := dk_182 0 74 (dk_at dksX2_readsBody_0 16 rfl rfl)
theorem dX2_readsBody_19 : decode cX2_readsBody 19 = .ok (.goto 14, 3) := dk_167 0 14 (dk_at dksX2_readsBody_0 19 rfl rfl)
theorem dX2_readsBody_22 : decode cX2_readsBody 22 = .ok (.iload_n 1, 1) := dk_27 (dk_at dksX2_readsBody_0 22 rfl rfl)
theorem dX2_readsBody_23 : decode cX2_readsBody 23 = .ok (.ifCond .lt 10, 3) := dk_155 0 10 (dk_at dksX2_readsBody_1 0 rfl rfl)
theorem dX2_readsBody_26 : decode cX2_readsBody 26 = .ok (.aload_n 0, 1) := dk_42 (dk_at dksX2_readsBody_1 3 rfl rfl)
theorem dX2_readsBody_27 : decode cX2_readsBody 27 = .ok (.iload_n 1, 1) := dk_27 (dk_at dksX2_readsBody_1 4 rfl rfl)
theorem dX2_readsBody_28 : decode cX2_readsBody 28 = .ok (.iconst 5, 1) := dk_8 (dk_at dksX2_readsBody_1 5 rfl rfl)
theorem dX2_readsBody_29 : decode cX2_readsBody 29 = .ok (.iload_n 3, 1) := dk_29 (dk_at dksX2_readsBody_1 6 rfl rfl)
theorem dX2_readsBody_30 : decode cX2_readsBody 30 = .ok (.invokevirtual 74, 3) := dk_182 0 74 (dk_at dksX2_readsBody_1 7 rfl rfl)
theorem dX2_readsBody_33 : decode cX2_readsBody 33 = .ok (.iconst (-1), 1) := dk_2 (dk_at dksX2_readsBody_1 10 rfl rfl)
theorem dX2_readsBody_34 : decode cX2_readsBody 34 = .ok (.istore 4, 2) := dk_54 4 (dk_at dksX2_readsBody_1 11 rfl rfl)
theorem dX2_readsBody_36 : decode cX2_readsBody 36 = .ok (.aload_n 0, 1) := dk_42 (dk_at dksX2_readsBody_1 13 rfl rfl)
theorem dX2_readsBody_37 : decode cX2_readsBody 37 = .ok (.getfield 71, 3) := dk_180 0 71 (dk_at dksX2_readsBody_1 14 rfl rfl)
theorem dX2_readsBody_40 : decode cX2_readsBody 40 = .ok (.istore 5, 2) := dk_54 5 (dk_at dksX2_readsBody_1 17 rfl rfl)
theorem dX2_readsBody_42 : decode cX2_readsBody 42 = .ok (.aload_n 0, 1) := dk_42 (dk_at dksX2_readsBody_1 19 rfl rfl)
theorem dX2_readsBody_43 : decode cX2_readsBody 43 = .ok (.iload_n 3, 1) := dk_29 (dk_at dksX2_readsBody_1 20 rfl rfl)
theorem dX2_readsBody_44 : decode cX2_readsBody 44 = .ok (.invokevirtual 85, 3) := dk_182 0 85 (dk_at dksX2_readsBody_1 21 rfl rfl)
theorem dX2_readsBody_47 : decode cX2_readsBody 47 = .ok (.ifCond .ne 5, 3) := dk_154 0 5 (dk_at dksX2_readsBody_2 0 rfl rfl)
theorem dX2_readsBody_50 : decode cX2_readsBody 50 = .ok (.iconst 0, 1) := dk_3 (dk_at dksX2_readsBody_2 3 rfl rfl)
theorem dX2_readsBody_51 : decode cX2_readsBody 51 = .ok (.ireturn, 1) := dk_172 (dk_at dksX2_readsBody_2 4 rfl rfl)
theorem dX2_readsBody_52 : decode cX2_readsBody 52 = .ok (.iload 4, 2) := dk_21 4 (dk_at dksX2_readsBody_2 5 rfl rfl)
theorem dX2_readsBody_54 : decode cX2_readsBody 54 = .ok (.ifCond .ge 14, 3) := dk_156 0 14 (dk_at dksX2_readsBody_2 7 rfl rfl)
theorem dX2_readsBody_57 : decode cX2_readsBody 57 = .ok (.aload_n 0, 1) := dk_42 (dk_at dksX2_readsBody_2 10 rfl rfl)
theorem dX2_readsBody_58 : decode cX2_readsBody 58 = .ok (.iload_n 3, 1) := dk_29 (dk_at dksX2_readsBody_2 11 rfl rfl)
theorem dX2_readsBody_59 : decode cX2_readsBody 59 = .ok (.iconst 5, 1) := dk_8 (dk_at dksX2_readsBody_2 12 rfl rfl)
theorem dX2_readsBody_60 : decode cX2_readsBody 60 = .ok (.iload 5, 2) := dk_21 5 (dk_at dksX2_readsBody_2 13 rfl rfl)
theorem dX2_readsBody_62 : decode cX2_readsBody 62 = .ok (.invokevirtual 74, 3) := dk_182 0 74 (dk_at dksX2_readsBody_2 15 rfl rfl)
theorem dX2_readsBody_65 : decode cX2_readsBody 65 = .ok (.goto 13, 3) := dk_167 0 13 (dk_at dksX2_readsBody_2 18 rfl rfl)
theorem dX2_readsBody_68 : decode cX2_readsBody 68 = .ok (.aload_n 0, 1) := dk_42 (dk_at dksX2_readsBody_2 21 rfl rfl)
theorem dX2_readsBody_69 : decode cX2_readsBody 69 = .ok (.iload 4, 2) := dk_21 4 (dk_at dksX2_readsBody_2 22 rfl rfl)
theorem dX2_readsBody_71 : decode cX2_readsBody 71 = .ok (.bipush 6, 2) := dk_16 6 (dk_at dksX2_readsBody_3 0 rfl rfl)
theorem dX2_readsBody_73 : decode cX2_readsBody 73 = .ok (.iload 5, 2) := dk_21 5 (dk_at dksX2_readsBody_3 2 rfl rfl)
theorem dX2_readsBody_75 : decode cX2_readsBody 75 = .ok (.invokevirtual 74, 3) := dk_182 0 74 (dk_at dksX2_readsBody_3 4 rfl rfl)
theorem dX2_readsBody_78 : decode cX2_readsBody 78 = .ok (.iload 5, 2) := dk_21 5 (dk_at dksX2_readsBody_3 7 rfl rfl)
theorem dX2_readsBody_80 : decode cX2_readsBody 80 = .ok (.istore 4, 2) := dk_54 4 (dk_at dksX2_readsBody_3 9 rfl rfl)
theorem dX2_readsBody_82 : decode cX2_readsBody 82 = .ok (.aload_n 0, 1) := dk_42 (dk_at dksX2_readsBody_3 11 rfl rfl)
theorem dX2_readsBody_83 : decode cX2_readsBody 83 = .ok (.bipush 59, 2) := dk_16 59 (dk_at dksX2_readsBody_3 12 rfl rfl)
theorem dX2_readsBody_85 : decode cX2_readsBody 85 = .ok (.invokevirtual 59, 3) := dk_182 0 59 (dk_at dksX2_readsBody_3 14 rfl rfl)
theorem dX2_readsBody_88 : decode cX2_readsBody 88 = .ok (.ifCond .ne (-52), 3) := dk_154 255 204 (dk_at dksX2_readsBody_3 17 rfl rfl)
theorem dX2_readsBody_91 : decode cX2_readsBody 91 = .ok (.iconst 1, 1) := dk_4 (dk_at dksX2_readsBody_3 20 rfl rfl)
theorem dX2_readsBody_92 : decode cX2_readsBody 92 = .ok (.ireturn, 1) := dk_172 (dk_at dksX2_readsBody_3 21 rfl rfl)
theorem hd_X2_readsItem : (yX2_readsItem.cls ≠ "java/lang/invoke/MethodHandle" ∧ yX2_readsItem.cls ≠ "java/lang/invoke/VarHandle" ∧ (parseMethodDescriptor yX2_readsItem.desc).map (fun d => d.parameters.length) = some 1) := ⟨by decide +kernel, by decide +kernel, by decide +kernel⟩
def t_X2_readsBody_s (rec : Int32 → Int32 → TS → Option (Int32 × TS)) (p1 : Int32) (p2 : Int32) (w0 : TS) : Option (Int32 × TS) := gB2 (t_X2_makes (nI 0) p1 w0) fun x2 w1 => gBd (fun (x5 : Int32) (w4 : TS) => gL2 (fun k9 (x7 : Int32) (x8 : Int32) (w6 : TS) => gBd (w6 0 14) fun x10 => gB2 (t_X2_readsItem rec x7 w6) fun x12 w11 => if x12 = 0 then some ((nI 0), w11) else gBd (fun (x16 : Int32) (x17 : Int32) (w15 : TS) => gB2 (t_X2_takes (nI 59) w15) fun x19 w18 => if x19 = 0 then some ((nI 1), w18) else k9 x16 x17 w18) fun k14 => if 0 ≤ x8 then gB2 (t_X2_put x8 (nI 6) x10 w11) fun _ w22 => k14 x7 x10 w22 else gB2 (t_X2_put x7 (nI 5) x10 w11) fun _ w23 => k14 x7 x10 w23) 20000 x5 (-1) w4) fun k3 => if p2 < 0 then if p1 < 0 then k3 x2 w1 else gB2 (t_X2_put p1 (nI 5) x2 w1) fun _ w26 => k3 x2 w26 else gB2 (t_X2_put p2 (nI 6) x2 w1) fun _ w27 => k3 x2 w27
set_option maxHeartbeats 4000000 in
set_option maxRecDepth 100000 in
theorem kt_X2_readsBody_s {D : va_G} {dA : Nat → ClassId} {A : Nat → Prop} {K : Nat → Nat} {l : Launch} {wb : gw} {ad : Nat → Nat} (hinj : tInj ad) {h : Nat} {rec : Int32 → Int32 → TS → Option (Int32 × TS)} {B : Nat} (hrec : ∀ {h : Nat}, B ≤ h → ∀ {p1 : Int32} {p2 : Int32} {w0 ww : TS} {rr : Int32}, rec p1 p2 w0 = some (rr, ww) → gMet D dA A K l yX2_readsBody (ws_ yX2_readsBody cX2_readsBody 6 (some .boolean)) h [(ga (some (ad 0))), (gi p1), (gi p2)] (some (gi rr)) (twOf wb ad w0) (twOf wb ad ww)) (hb : 5 ≤ B) (hh : B + 3 ≤ h) {p1 : Int32} {p2 : Int32} {w0 ww : TS} {rr : Int32} (hf : t_X2_readsBody_s rec p1 p2 w0 = some (rr, ww)) : gMet D dA A K l yX2_readsBody (ws_ yX2_readsBody cX2_readsBody 6 (some .boolean)) h [(ga (some (ad 0))), (gi p1), (gi p2)] (some (gi rr)) (twOf wb ad w0) (twOf wb ad ww) := by
  refine j_start (own := RX2) (by decide +kernel) rfl (Nat.le_of_ble_eq_true rfl) ?_
  intro p e R s m args below meth c C hr hin hw
  unfold t_X2_readsBody_s at hf
  show gJ D dA A K p l e R s m args below meth c (gEnd D dA A K below args s (twOf wb ad w0) (some (gi rr)) (twOf wb ad ww)) 6 0 [(0, (ga (some (ad 0)))), (1, (gi p1)), (2, (gi p2))] [] (twOf wb ad w0)
  refine j_aload_n C dX2_readsBody_0 rfl ?_
  refine j_iconst (v := (nI 0)) C dX2_readsBody_1 (by decide) ?_
  refine j_iload_n C dX2_readsBody_2 rfl ?_
  replace hf := gB2_e hf
  obtain ⟨x2, w1, ew1, hf⟩ := hf
  refine j_callV (As := [(gi (nI 0)), (gi p1)]) (rest := []) (v := (some (gi x2))) C (by omega) (kt_X2_makes hinj (by omega) ew1) (tw_cls hinj) rfl q1676 q1678 qs35 q93 q1679 ⟨rfl, hd_X2_makes⟩ (by decide) rfl (Nat.le_of_ble_eq_true rfl) dX2_readsBody_3 ?_
  refine j_istore_n (lv' := [(3, (gi x2)), (0, (ga (some (ad 0)))), (1, (gi p1)), (2, (gi p2))]) C dX2_readsBody_6 (by decide) rfl ?_
  refine j_iload_n C dX2_readsBody_7 rfl ?_
  replace hf := gBd_x hf
  obtain ⟨k3, ek3, hf⟩ := hf
  have jk3 : ∀ (x5 : Int32) (w4 : TS), k3 x5 w4 = some (rr, ww) → gJ D dA A K p l e R s m args below meth c (gEnd D dA A K below args s (twOf wb ad w0) (some (gi rr)) (twOf wb ad ww)) 6 33 [(0, (ga (some (ad 0)))), (3, (gi x5))] [] (twOf wb ad w4) := by
    intro x5 w4 hf
    rw [ek3] at hf
    dsimp only at hf
    refine j_iconst (v := (-1)) C dX2_readsBody_33 (by decide) ?_
    refine j_istore (lv' := [(4, (gi (-1))), (0, (ga (some (ad 0)))), (3, (gi x5))]) C dX2_readsBody_34 (by decide) rfl ?_
    refine j_sub (lv' := [(0, (ga (some (ad 0)))), (3, (gi x5)), (4, (gi (-1)))]) (gL_cons rfl (gL_cons rfl (gL_cons rfl (gL_nil)))) ?_
    refine gL2_e (fun (x7 : Int32) (x8 : Int32) (w6 : TS) => gJ D dA A K p l e R s m args below meth c (gEnd D dA A K below args s (twOf wb ad w0) (some (gi rr)) (twOf wb ad ww)) 6 36 [(0, (ga (some (ad 0)))), (3, (gi x7)), (4, (gi x8))] [] (twOf wb ad w6)) ?_ _ _ _ _ hf
    intro k9 jk9 x7 x8 w6 hf
    refine j_aload_n C dX2_readsBody_36 rfl ?_
    refine j_get (v := (gi (w6 0 14))) C fl_X2_71_2 dX2_readsBody_37 (tw_F hinj rfl) ?_
    replace hf := gBd_x hf
    obtain ⟨x10, ex10, hf⟩ := hf
    refine j_nm ex10 ?_
    refine j_istore (lv' := [(5, (gi x10)), (0, (ga (some (ad 0)))), (3, (gi x7)), (4, (gi x8))]) C dX2_readsBody_40 (by decide) rfl ?_
    refine j_aload_n C dX2_readsBody_42 rfl ?_
    refine j_iload_n C dX2_readsBody_43 rfl ?_
    replace hf := gB2_e hf
    obtain ⟨x12, w11, ew11, hf⟩ := hf
    refine j_callV (As := [(gi x7)]) (rest := []) (v := (some (gi x12))) C (by omega) (kt_X2_readsItem hinj hrec hb (by omega) ew11) (tw_cls hinj) rfl q1687 q1689 qs37 q93 q1690 ⟨rfl, hd_X2_readsItem⟩ (by decide) rfl (Nat.le_of_ble_eq_true rfl) dX2_readsBody_44 ?_
    refine j_if_ne (tgt := 52) C dX2_readsBody_47 (by decide) (fun c13 => ?_) (fun c13 => ?_)
    · replace hf := gIf_f hf c13
      refine j_iload C dX2_readsBody_52 rfl ?_
      replace hf := gBd_x hf
      obtain ⟨k14, ek14, hf⟩ := hf
      have jk14 : ∀ (x16 : Int32) (x17 : Int32) (w15 : TS), k14 x16 x17 w15 = some (rr, ww) → gJ D dA A K p l e R s m args below meth c (gEnd D dA A K below args s (twOf wb ad w0) (some (gi rr)) (twOf wb ad ww)) 6 78 [(0, (ga (some (ad 0)))), (3, (gi x16)), (5, (gi x17))] [] (twOf wb ad w15) := by
        intro x16 x17 w15 hf
        rw [ek14] at hf
        dsimp only at hf
        refine j_iload C dX2_readsBody_78 rfl ?_
        refine j_istore (lv' := [(4, (gi x17)), (0, (ga (some (ad 0)))), (3, (gi x16)), (5, (gi x17))]) C dX2_readsBody_80 (by decide) rfl ?_
        refine j_aload_n C dX2_readsBody_82 rfl ?_
        refine j_bipush (v := (nI 59)) C dX2_readsBody_83 (by decide) ?_
        replace hf := gB2_e hf
        obtain ⟨x19, w18, ew18, hf⟩ := hf
        refine j_callV (As := [(gi (nI 59))]) (rest := []) (v := (some (gi x19))) C (by omega) (kt_X2_takes hinj (by omega) ew18) (tw_cls hinj) rfl q1710 q1712 qs42 q93 q1713 ⟨rfl, hd_X2_takes⟩ (by decide) rfl (Nat.le_of_ble_eq_true rfl) dX2_readsBody_85 ?_
        refine j_if_ne (tgt := 36) C dX2_readsBody_88 (by decide) (fun c20 => ?_) (fun c20 => ?_)
        · replace hf := gIf_f hf c20
          refine j_sub (lv' := [(0, (ga (some (ad 0)))), (3, (gi x16)), (4, (gi x17))]) (gL_cons rfl (gL_cons rfl (gL_cons rfl (gL_nil)))) ?_
          exact jk9 _ _ _ hf
        · replace hf := gIf_t hf c20
          refine j_iconst (v := (nI 1)) C dX2_readsBody_91 (by decide) ?_
          obtain ⟨rfl, rfl⟩ := gSome hf
          exact j_zret C hr (by decide) hw dX2_readsBody_92
      clear ek14
      refine j_if_ge (tgt := 68) C dX2_readsBody_54 (by decide) (fun c21 => ?_) (fun c21 => ?_)
      · replace hf := gIf_t hf c21
        refine j_aload_n C dX2_readsBody_68 rfl ?_
        refine j_iload C dX2_readsBody_69 rfl ?_
        refine j_bipush (v := (nI 6)) C dX2_readsBody_71 (by decide) ?_
        refine j_iload C dX2_readsBody_73 rfl ?_
        replace hf := gB2_e hf
        obtain ⟨_, w22, ew22, hf⟩ := hf
        refine j_callV (As := [(gi x8), (gi (nI 6)), (gi x10)]) (rest := []) (v := none) C (by omega) (kt_X2_put hinj (by omega) ew22) (tw_cls hinj) rfl q1680 q1682 qs36 q93 q1683 ⟨rfl, hd_X2_put⟩ (by decide) rfl (Nat.le_of_ble_eq_true rfl) dX2_readsBody_75 ?_
        refine j_sub (lv' := [(0, (ga (some (ad 0)))), (3, (gi x7)), (5, (gi x10))]) (gL_cons rfl (gL_cons rfl (gL_cons rfl (gL_nil)))) ?_
        exact jk14 _ _ _ hf
      · replace hf := gIf_f hf c21
        refine j_aload_n C dX2_readsBody_57 rfl ?_
        refine j_iload_n C dX2_readsBody_58 rfl ?_
        refine j_iconst (v := (nI 5)) C dX2_readsBody_59 (by decide) ?_
        refine j_iload C dX2_readsBody_60 rfl ?_
        replace hf := gB2_e hf
        obtain ⟨_, w23, ew23, hf⟩ := hf
        refine j_callV (As := [(gi x7), (gi (nI 5)), (gi x10)]) (rest := []) (v := none) C (by omega) (kt_X2_put hinj (by omega) ew23) (tw_cls hinj) rfl q1680 q1682 qs36 q93 q1683 ⟨rfl, hd_X2_put⟩ (by decide) rfl (Nat.le_of_ble_eq_true rfl) dX2_readsBody_62 ?_
        refine j_goto (tgt := 78) C dX2_readsBody_65 (by decide) ?_
        refine j_sub (lv' := [(0, (ga (some (ad 0)))), (3, (gi x7)), (5, (gi x10))]) (gL_cons rfl (gL_cons rfl (gL_cons rfl (gL_nil)))) ?_
        exact jk14 _ _ _ hf
    · replace hf := gIf_t hf c13
      refine j_iconst (v := (nI 0)) C dX2_readsBody_50 (by decide) ?_
      obtain ⟨rfl, rfl⟩ := gSome hf
      exact j_zret C hr (by decide) hw dX2_readsBody_51
  clear ek3
  refine j_if_lt (tgt := 22) C dX2_readsBody_8 (by decide) (fun c24 => ?_) (fun c24 => ?_)
  · replace hf := gIf_t hf c24
    refine j_iload_n C dX2_readsBody_22 rfl ?_
    refine j_if_lt (tgt := 33) C dX2_readsBody_23 (by decide) (fun c25 => ?_) (fun c25 => ?_)
    · replace hf := gIf_t hf c25
      refine j_sub (lv' := [(0, (ga (some (ad 0)))), (3, (gi x2))]) (gL_cons rfl (gL_cons rfl (gL_nil))) ?_
      exact jk3 _ _ hf
    · replace hf := gIf_f hf c25
      refine j_aload_n C dX2_readsBody_26 rfl ?_
      refine j_iload_n C dX2_readsBody_27 rfl ?_
      refine j_iconst (v := (nI 5)) C dX2_readsBody_28 (by decide) ?_
      refine j_iload_n C dX2_readsBody_29 rfl ?_
      replace hf := gB2_e hf
      obtain ⟨_, w26, ew26, hf⟩ := hf
      refine j_callV (As := [(gi p1), (gi (nI 5)), (gi x2)]) (rest := []) (v := none) C (by omega) (kt_X2_put hinj (by omega) ew26) (tw_cls hinj) rfl q1680 q1682 qs36 q93 q1683 ⟨rfl, hd_X2_put⟩ (by decide) rfl (Nat.le_of_ble_eq_true rfl) dX2_readsBody_30 ?_
      refine j_sub (lv' := [(0, (ga (some (ad 0)))), (3, (gi x2))]) (gL_cons rfl (gL_cons rfl (gL_nil))) ?_
      exact jk3 _ _ hf
  · replace hf := gIf_f hf c24
    refine j_aload_n C dX2_readsBody_11 rfl ?_
    refine j_iload_n C dX2_readsBody_12 rfl ?_
    refine j_bipush (v := (nI 6)) C dX2_readsBody_13 (by decide) ?_
    refine j_iload_n C dX2_readsBody_15 rfl ?_
    replace hf := gB2_e hf
    obtain ⟨_, w27, ew27, hf⟩ := hf
    refine j_callV (As := [(gi p2), (gi (nI 6)), (gi x2)]) (rest := []) (v := none) C (by omega) (kt_X2_put hinj (by omega) ew27) (tw_cls hinj) rfl q1680 q1682 qs36 q93 q1683 ⟨rfl, hd_X2_put⟩ (by decide) rfl (Nat.le_of_ble_eq_true rfl) dX2_readsBody_16 ?_
    refine j_goto (tgt := 33) C dX2_readsBody_19 (by decide) ?_
    refine j_sub (lv' := [(0, (ga (some (ad 0)))), (3, (gi x2))]) (gL_cons rfl (gL_cons rfl (gL_nil))) ?_
    exact jk3 _ _ hf
def t_X2_readsBody : Nat → Int32 → Int32 → TS → Option (Int32 × TS)
  | 0 => fun _ _ _ => none
  | d + 1 => t_X2_readsBody_s (t_X2_readsBody d)
theorem kt_X2_readsBody {D : va_G} {dA : Nat → ClassId} {A : Nat → Prop} {K : Nat → Nat} {l : Launch} {wb : gw} {ad : Nat → Nat} (hinj : tInj ad) : ∀ (d : Nat) {h : Nat}, 5 + 3 * d ≤ h → ∀ {p1 : Int32} {p2 : Int32} {w0 ww : TS} {rr : Int32}, t_X2_readsBody d p1 p2 w0 = some (rr, ww) → gMet D dA A K l yX2_readsBody (ws_ yX2_readsBody cX2_readsBody 6 (some .boolean)) h [(ga (some (ad 0))), (gi p1), (gi p2)] (some (gi rr)) (twOf wb ad w0) (twOf wb ad ww) := by
  intro d
  induction d with
  | zero => intro h hh p1 p2 w0 ww rr hf; cases hf
  | succ d ih =>
    intro h hh p1 p2 w0 ww rr hf
    exact kt_X2_readsBody_s hinj (rec := t_X2_readsBody d) (B := 5 + 3 * d) (fun hh => ih hh) (by omega) (by omega) hf
abbrev t_X2_readsItem_x (p1 : Int32) (w0 : TS) : Option (Int32 × TS) := t_X2_readsItem (t_X2_readsBody 12) p1 w0
theorem kt_X2_readsItem_x {D : va_G} {dA : Nat → ClassId} {A : Nat → Prop} {K : Nat → Nat} {l : Launch} {wb : gw} {ad : Nat → Nat} (hinj : tInj ad) {h : Nat} (hh : 43 ≤ h) {p1 : Int32} {w0 ww : TS} {rr : Int32} (hf : t_X2_readsItem_x p1 w0 = some (rr, ww)) : gMet D dA A K l yX2_readsItem (ws_ yX2_readsItem cX2_readsItem 3 (some .boolean)) h [(ga (some (ad 0))), (gi p1)] (some (gi rr)) (twOf wb ad w0) (twOf wb ad ww) := kt_X2_readsItem hinj (fun hh => kt_X2_readsBody hinj 12 hh) (B := 41) (by omega) (by omega) hf
abbrev t_X2_readsChoice_x (p1 : Int32) (w0 : TS) : Option (Int32 × TS) := t_X2_readsChoice (t_X2_readsBody 12) p1 w0
theorem kt_X2_readsChoice_x {D : va_G} {dA : Nat → ClassId} {A : Nat → Prop} {K : Nat → Nat} {l : Launch} {wb : gw} {ad : Nat → Nat} (hinj : tInj ad) {h : Nat} (hh : 42 ≤ h) {p1 : Int32} {w0 ww : TS} {rr : Int32} (hf : t_X2_readsChoice_x p1 w0 = some (rr, ww)) : gMet D dA A K l yX2_readsChoice (ws_ yX2_readsChoice cX2_readsChoice 3 (some .boolean)) h [(ga (some (ad 0))), (gi p1)] (some (gi rr)) (twOf wb ad w0) (twOf wb ad ww) := kt_X2_readsChoice hinj (fun hh => kt_X2_readsBody hinj 12 hh) (B := 41) (by omega) (by omega) hf
abbrev t_X2_readsParallel_x (p1 : Int32) (w0 : TS) : Option (Int32 × TS) := t_X2_readsParallel (t_X2_readsBody 12) p1 w0
theorem kt_X2_readsParallel_x {D : va_G} {dA : Nat → ClassId} {A : Nat → Prop} {K : Nat → Nat} {l : Launch} {wb : gw} {ad : Nat → Nat} (hinj : tInj ad) {h : Nat} (hh : 42 ≤ h) {p1 : Int32} {w0 ww : TS} {rr : Int32} (hf : t_X2_readsParallel_x p1 w0 = some (rr, ww)) : gMet D dA A K l yX2_readsParallel (ws_ yX2_readsParallel cX2_readsParallel 5 (some .boolean)) h [(ga (some (ad 0))), (gi p1)] (some (gi rr)) (twOf wb ad w0) (twOf wb ad ww) := kt_X2_readsParallel hinj (fun hh => kt_X2_readsBody hinj 12 hh) (B := 41) (by omega) (by omega) hf
def dkwX2_define_11 : List UInt8 := [96, 79, 21, 4, 172]
abbrev dktX2_define_11 : List UInt8 := dkwX2_define_11 ++ []
def dkwX2_define_10 : List UInt8 := [79, 42, 180, 0, 16, 7, 21, 5, 104, 6, 96, 29, 79, 42, 180, 0, 22, 16, 17, 27, 96, 92, 46, 4]
abbrev dktX2_define_10 : List UInt8 := dkwX2_define_10 ++ dktX2_define_11
def dkwX2_define_9 : List UInt8 := [21, 5, 104, 4, 96, 42, 180, 0, 91, 79, 42, 180, 0, 16, 7, 21, 5, 104, 5, 96, 42, 180, 0, 124]
abbrev dktX2_define_9 : List UInt8 := dkwX2_define_9 ++ dktX2_define_10
def dkwX2_define_8 : List UInt8 := [132, 6, 1, 167, 255, 215, 42, 180, 0, 16, 7, 21, 5, 104, 42, 180, 0, 71, 79, 42, 180, 0, 16, 7]
abbrev dktX2_define_8 : List UInt8 := dkwX2_define_8 ++ dktX2_define_9
def dkwX2_define_7 : List UInt8 := [3, 184, 0, 67, 21, 6, 96, 42, 180, 0, 9, 16, 16, 3, 3, 184, 0, 67, 21, 6, 96, 46, 79]
abbrev dktX2_define_7 : List UInt8 := dkwX2_define_7 ++ dktX2_define_8
def dkwX2_define_6 : List UInt8 := [104, 21, 4, 96, 54, 5, 3, 54, 6, 21, 6, 17, 2, 64, 162, 0, 39, 42, 180, 0, 9, 21, 5, 3]
abbrev dktX2_define_6 : List UInt8 := dkwX2_define_6 ++ dktX2_define_7
def dkwX2_define_5 : List UInt8 := [154, 0, 11, 16, 156, 42, 180, 0, 45, 100, 172, 42, 180, 0, 22, 16, 17, 27, 96, 46, 54, 4, 7, 27]
abbrev dktX2_define_5 : List UInt8 := dkwX2_define_5 ++ dktX2_define_6
def dkwX2_define_4 : List UInt8 := [153, 0, 7, 2, 167, 0, 7, 42, 180, 0, 45, 181, 0, 34, 42, 42, 180, 0, 78, 181, 0, 141, 28]
abbrev dktX2_define_4 : List UInt8 := dkwX2_define_4 ++ dktX2_define_5
def dkwX2_define_3 : List UInt8 := [180, 0, 42, 160, 0, 7, 4, 167, 0, 4, 3, 61, 42, 180, 0, 42, 62, 42, 3, 181, 0, 42, 42, 28]
abbrev dktX2_define_3 : List UInt8 := dkwX2_define_3 ++ dktX2_define_4
def dkwX2_define_2 : List UInt8 := [181, 0, 94, 42, 3, 181, 0, 124, 42, 2, 2, 182, 0, 135, 153, 0, 18, 42, 180, 0, 45, 42]
abbrev dktX2_define_2 : List UInt8 := dkwX2_define_2 ++ dktX2_define_3
def dkwX2_define_1 : List UInt8 := [172, 42, 3, 181, 0, 45, 42, 4, 181, 0, 78, 42, 3, 181, 0, 71, 42, 3, 181, 0, 91, 42, 3]
abbrev dktX2_define_1 : List UInt8 := dkwX2_define_1 ++ dktX2_define_2
def dkwX2_define_0 : List UInt8 := [27, 184, 0, 138, 154, 0, 5, 2, 172, 42, 180, 0, 22, 16, 17, 27, 96, 46, 7, 160, 0, 6, 16, 252]
abbrev dktX2_define_0 : List UInt8 := dkwX2_define_0 ++ dktX2_define_1
theorem dksX2_define_0 : cX2_define.data.toList.drop 0 = dktX2_define_0 := by decide +kernel
theorem dksX2_define_1 : cX2_define.data.toList.drop 24 = dktX2_define_1 := dk_seg dksX2_define_0 24 rfl rfl
theorem dksX2_define_2 : cX2_define.data.toList.drop 47 = dktX2_define_2 := dk_seg dksX2_define_1 23 rfl rfl
theorem dksX2_define_3 : cX2_define.data.toList.drop 69 = dktX2_define_3 := dk_seg dksX2_define_2 22 rfl rfl
theorem dksX2_define_4 : cX2_define.data.toList.drop 93 = dktX2_define_4 := dk_seg dksX2_define_3 24 rfl rfl
theorem dksX2_define_5 : cX2_define.data.toList.drop 116 = dktX2_define_5 := dk_seg dksX2_define_4 23 rfl rfl
theorem dksX2_define_6 : cX2_define.data.toList.drop 140 = dktX2_define_6 := dk_seg dksX2_define_5 24 rfl rfl
theorem dksX2_define_7 : cX2_define.data.toList.drop 164 = dktX2_define_7 := dk_seg dksX2_define_6 24 rfl rfl
theorem dksX2_define_8 : cX2_define.data.toList.drop 187 = dktX2_define_8 := dk_seg dksX2_define_7 23 rfl rfl
theorem dksX2_define_9 : cX2_define.data.toList.drop 211 = dktX2_define_9 := dk_seg dksX2_define_8 24 rfl rfl
theorem dksX2_define_10 : cX2_define.data.toList.drop 235 = dktX2_define_10 := dk_seg dksX2_define_9 24 rfl rfl
theorem dksX2_define_11 : cX2_define.data.toList.drop 259 = dktX2_define_11 := dk_seg dksX2_define_10 24 rfl rfl
theorem dX2_define_0 : decode cX2_define 0 = .ok (.iload_n 1, 1) := dk_27 (dk_at dksX2_define_0 0 rfl rfl)
theorem dX2_define_1 : decode cX2_define 1 = .ok (.invokestatic 138, 3) := dk_184 0 138 (dk_at dksX2_define_0 1 rfl rfl)
theorem dX2_define_4 : decode cX2_define 4 = .ok (.ifCond .ne 5, 3) := dk_154 0 5 (dk_at dksX2_define_0 4 rfl rfl)
theorem dX2_define_7 : decode cX2_define 7 = .ok (.iconst (-1), 1) := dk_2 (dk_at dksX2_define_0 7 rfl rfl)
theorem dX2_define_8 : decode cX2_define 8 = .ok (.ireturn, 1) := dk_172 (dk_at dksX2_define_0 8 rfl rfl)
theorem dX2_define_9 : decode cX2_define 9 = .ok (.aload_n 0, 1) := dk_42 (dk_at dksX2_define_0 9 rfl rfl)
theorem dX2_define_10 : decode cX2_define 10 = .ok (.getfield 22, 3) := dk_180 0 22 (dk_at dksX2_define_0 10 rfl rfl)
theorem dX2_define_13 : decode cX2_define 13 = .ok (.bipush 17, 2) := dk_16 17 (dk_at dksX2_define_0 13 rfl rfl)
theorem dX2_define_15 : decode cX2_define 15 = .ok (.iload_n 1, 1) := dk_27 (dk_at dksX2_define_0 15 rfl rfl)
theorem dX2_define_16 : decode cX2_define 16 = .ok (.iadd, 1) := dk_96 (dk_at dksX2_define_0 16 rfl rfl)
theorem dX2_define_17 : decode cX2_define 17 = .ok (.iaload, 1) := dk_46 (dk_at dksX2_define_0 17 rfl rfl)
theorem dX2_define_18 : decode cX2_define 18 = .ok (.iconst 4, 1) := dk_7 (dk_at dksX2_define_0 18 rfl rfl)
theorem dX2_define_19 : decode cX2_define 19 = .ok (.if_icmp .ne 6, 3) := dk_160 0 6 (dk_at dksX2_define_0 19 rfl rfl)
theorem dX2_define_22 : decode cX2_define 22 = .ok (.bipush (-4), 2) := dk_16 252 (dk_at dksX2_define_0 22 rfl rfl)
theorem dX2_define_24 : decode cX2_define 24 = .ok (.ireturn, 1) := dk_172 (dk_at dksX2_define_1 0 rfl rfl)
theorem dX2_define_25 : decode cX2_define 25 = .ok (.aload_n 0, 1) := dk_42 (dk_at dksX2_define_1 1 rfl rfl)
theorem dX2_define_26 : decode cX2_define 26 = .ok (.iconst 0, 1) := dk_3 (dk_at dksX2_define_1 2 rfl rfl)
theorem dX2_define_27 : decode cX2_define 27 = .ok (.putfield 45, 3) := dk_181 0 45 (dk_at dksX2_define_1 3 rfl rfl)
theorem dX2_define_30 : decode cX2_define 30 = .ok (.aload_n 0, 1) := dk_42 (dk_at dksX2_define_1 6 rfl rfl)
theorem dX2_define_31 : decode cX2_define 31 = .ok (.iconst 1, 1) := dk_4 (dk_at dksX2_define_1 7 rfl rfl)
theorem dX2_define_32 : decode cX2_define 32 = .ok (.putfield 78, 3) := dk_181 0 78 (dk_at dksX2_define_1 8 rfl rfl)
theorem dX2_define_35 : decode cX2_define 35 = .ok (.aload_n 0, 1) := dk_42 (dk_at dksX2_define_1 11 rfl rfl)
theorem dX2_define_36 : decode cX2_define 36 = .ok (.iconst 0, 1) := dk_3 (dk_at dksX2_define_1 12 rfl rfl)
theorem dX2_define_37 : decode cX2_define 37 = .ok (.putfield 71, 3) := dk_181 0 71 (dk_at dksX2_define_1 13 rfl rfl)
theorem dX2_define_40 : decode cX2_define 40 = .ok (.aload_n 0, 1) := dk_42 (dk_at dksX2_define_1 16 rfl rfl)
theorem dX2_define_41 : decode cX2_define 41 = .ok (.iconst 0, 1) := dk_3 (dk_at dksX2_define_1 17 rfl rfl)
theorem dX2_define_42 : decode cX2_define 42 = .ok (.putfield 91, 3) := dk_181 0 91 (dk_at dksX2_define_1 18 rfl rfl)
theorem dX2_define_45 : decode cX2_define 45 = .ok (.aload_n 0, 1) := dk_42 (dk_at dksX2_define_1 21 rfl rfl)
theorem dX2_define_46 : decode cX2_define 46 = .ok (.iconst 0, 1) := dk_3 (dk_at dksX2_define_1 22 rfl rfl)
theorem dX2_define_47 : decode cX2_define 47 = .ok (.putfield 94, 3) := dk_181 0 94 (dk_at dksX2_define_2 0 rfl rfl)
theorem dX2_define_50 : decode cX2_define 50 = .ok (.aload_n 0, 1) := dk_42 (dk_at dksX2_define_2 3 rfl rfl)
theorem dX2_define_51 : decode cX2_define 51 = .ok (.iconst 0, 1) := dk_3 (dk_at dksX2_define_2 4 rfl rfl)
theorem dX2_define_52 : decode cX2_define 52 = .ok (.putfield 124, 3) := dk_181 0 124 (dk_at dksX2_define_2 5 rfl rfl)
theorem dX2_define_55 : decode cX2_define 55 = .ok (.aload_n 0, 1) := dk_42 (dk_at dksX2_define_2 8 rfl rfl)
theorem dX2_define_56 : decode cX2_define 56 = .ok (.iconst (-1), 1) := dk_2 (dk_at dksX2_define_2 9 rfl rfl)
theorem dX2_define_57 : decode cX2_define 57 = .ok (.iconst (-1), 1) := dk_2 (dk_at dksX2_define_2 10 rfl rfl)
theorem dX2_define_58 : decode cX2_define 58 = .ok (.invokevirtual 135, 3) := dk_182 0 135 (dk_at dksX2_define_2 11 rfl rfl)
theorem dX2_define_61 : decode cX2_define 61 = .ok (.ifCond .eq 18, 3) := dk_153 0 18 (dk_at dksX2_define_2 14 rfl rfl)
theorem dX2_define_64 : decode cX2_define 64 = .ok (.aload_n 0, 1) := dk_42 (dk_at dksX2_define_2 17 rfl rfl)
theorem dX2_define_65 : decode cX2_define 65 = .ok (.getfield 45, 3) := dk_180 0 45 (dk_at dksX2_define_2 18 rfl rfl)
theorem dX2_define_68 : decode cX2_define 68 = .ok (.aload_n 0, 1) := dk_42 (dk_at dksX2_define_2 21 rfl rfl)
theorem dX2_define_69 : decode cX2_define 69 = .ok (.getfield 42, 3) := dk_180 0 42 (dk_at dksX2_define_3 0 rfl rfl)
theorem dX2_define_72 : decode cX2_define 72 = .ok (.if_icmp .ne 7, 3) := dk_160 0 7 (dk_at dksX2_define_3 3 rfl rfl)
theorem dX2_define_75 : decode cX2_define 75 = .ok (.iconst 1, 1) := dk_4 (dk_at dksX2_define_3 6 rfl rfl)
theorem dX2_define_76 : decode cX2_define 76 = .ok (.goto 4, 3) := dk_167 0 4 (dk_at dksX2_define_3 7 rfl rfl)
theorem dX2_define_79 : decode cX2_define 79 = .ok (.iconst 0, 1) := dk_3 (dk_at dksX2_define_3 10 rfl rfl)
theorem dX2_define_80 : decode cX2_define 80 = .ok (.istore_n 2, 1) := dk_61 (dk_at dksX2_define_3 11 rfl rfl)
theorem dX2_define_81 : decode cX2_define 81 = .ok (.aload_n 0, 1) := dk_42 (dk_at dksX2_define_3 12 rfl rfl)
theorem dX2_define_82 : decode cX2_define 82 = .ok (.getfield 42, 3) := dk_180 0 42 (dk_at dksX2_define_3 13 rfl rfl)
theorem dX2_define_85 : decode cX2_define 85 = .ok (.istore_n 3, 1) := dk_62 (dk_at dksX2_define_3 16 rfl rfl)
theorem dX2_define_86 : decode cX2_define 86 = .ok (.aload_n 0, 1) := dk_42 (dk_at dksX2_define_3 17 rfl rfl)
theorem dX2_define_87 : decode cX2_define 87 = .ok (.iconst 0, 1) := dk_3 (dk_at dksX2_define_3 18 rfl rfl)
theorem dX2_define_88 : decode cX2_define 88 = .ok (.putfield 42, 3) := dk_181 0 42 (dk_at dksX2_define_3 19 rfl rfl)
theorem dX2_define_91 : decode cX2_define 91 = .ok (.aload_n 0, 1) := dk_42 (dk_at dksX2_define_3 22 rfl rfl)
theorem dX2_define_92 : decode cX2_define 92 = .ok (.iload_n 2, 1) := dk_28 (dk_at dksX2_define_3 23 rfl rfl)
theorem dX2_define_93 : decode cX2_define 93 = .ok (.ifCond .eq 7, 3) := dk_153 0 7 (dk_at dksX2_define_4 0 rfl rfl)
theorem dX2_define_96 : decode cX2_define 96 = .ok (.iconst (-1), 1) := dk_2 (dk_at dksX2_define_4 3 rfl rfl)
theorem dX2_define_97 : decode cX2_define 97 = .ok (.goto 7, 3) := dk_167 0 7 (dk_at dksX2_define_4 4 rfl rfl)
theorem dX2_define_100 : decode cX2_define 100 = .ok (.aload_n 0, 1) := dk_42 (dk_at dksX2_define_4 7 rfl rfl)
theorem dX2_define_101 : decode cX2_define 101 = .ok (.getfield 45, 3) := dk_180 0 45 (dk_at dksX2_define_4 8 rfl rfl)
theorem dX2_define_104 : decode cX2_define 104 = .ok (.putfield 34, 3) := dk_181 0 34 (dk_at dksX2_define_4 11 rfl rfl)
theorem dX2_define_107 : decode cX2_define 107 = .ok (.aload_n 0, 1) := dk_42 (dk_at dksX2_define_4 14 rfl rfl)
theorem dX2_define_108 : decode cX2_define 108 = .ok (.aload_n 0, 1) := dk_42 (dk_at dksX2_define_4 15 rfl rfl)
theorem dX2_define_109 : decode cX2_define 109 = .ok (.getfield 78, 3) := dk_180 0 78 (dk_at dksX2_define_4 16 rfl rfl)
theorem dX2_define_112 : decode cX2_define 112 = .ok (.putfield 141, 3) := dk_181 0 141 (dk_at dksX2_define_4 19 rfl rfl)
theorem dX2_define_115 : decode cX2_define 115 = .ok (.iload_n 2, 1) := dk_28 (dk_at dksX2_define_4 22 rfl rfl)
theorem dX2_define_116 : decode cX2_define 116 = .ok (.ifCond .ne 11, 3) := dk_154 0 11 (dk_at dksX2_define_5 0 rfl rfl)
theorem dX2_define_119 : decode cX2_define 119 = .ok (.bipush (-100), 2) := dk_16 156 (dk_at dksX2_define_5 3 rfl rfl)
theorem dX2_define_121 : decode cX2_define 121 = .ok (.aload_n 0, 1) := dk_42 (dk_at dksX2_define_5 5 rfl rfl)
theorem dX2_define_122 : decode cX2_define 122 = .ok (.getfield 45, 3) := dk_180 0 45 (dk_at dksX2_define_5 6 rfl rfl)
theorem dX2_define_125 : decode cX2_define 125 = .ok (.isub, 1) := dk_100 (dk_at dksX2_define_5 9 rfl rfl)
theorem dX2_define_126 : decode cX2_define 126 = .ok (.ireturn, 1) := dk_172 (dk_at dksX2_define_5 10 rfl rfl)
theorem dX2_define_127 : decode cX2_define 127 = .ok (.aload_n 0, 1) := dk_42 (dk_at dksX2_define_5 11 rfl rfl)
theorem dX2_define_128 : decode cX2_define 128 = .ok (.getfield 22, 3) := dk_180 0 22 (dk_at dksX2_define_5 12 rfl rfl)
theorem dX2_define_131 : decode cX2_define 131 = .ok (.bipush 17, 2) := dk_16 17 (dk_at dksX2_define_5 15 rfl rfl)
theorem dX2_define_133 : decode cX2_define 133 = .ok (.iload_n 1, 1) := dk_27 (dk_at dksX2_define_5 17 rfl rfl)
theorem dX2_define_134 : decode cX2_define 134 = .ok (.iadd, 1) := dk_96 (dk_at dksX2_define_5 18 rfl rfl)
theorem dX2_define_135 : decode cX2_define 135 = .ok (.iaload, 1) := dk_46 (dk_at dksX2_define_5 19 rfl rfl)
theorem dX2_define_136 : decode cX2_define 136 = .ok (.istore 4, 2) := dk_54 4 (dk_at dksX2_define_5 20 rfl rfl)
theorem dX2_define_138 : decode cX2_define 138 = .ok (.iconst 4, 1) := dk_7 (dk_at dksX2_define_5 22 rfl rfl)
theorem dX2_define_139 : decode cX2_define 139 = .ok (.iload_n 1, 1) := dk_27 (dk_at dksX2_define_5 23 rfl rfl)
theorem dX2_define_140 : decode cX2_define 140 = .ok (.imul, 1) := dk_104 (dk_at dksX2_define_6 0 rfl rfl)
theorem dX2_define_141 : decode cX2_define 141 = .ok (.iload 4, 2) := dk_21 4 (dk_at dksX2_define_6 1 rfl rfl)
theorem dX2_define_143 : decode cX2_define 143 = .ok (.iadd, 1) := dk_96 (dk_at dksX2_define_6 3 rfl rfl)
theorem dX2_define_144 : decode cX2_define 144 = .ok (.istore 5, 2) := dk_54 5 (dk_at dksX2_define_6 4 rfl rfl)
theorem dX2_define_146 : decode cX2_define 146 = .ok (.iconst 0, 1) := dk_3 (dk_at dksX2_define_6 6 rfl rfl)
theorem dX2_define_147 : decode cX2_define 147 = .ok (.istore 6, 2) := dk_54 6 (dk_at dksX2_define_6 7 rfl rfl)
theorem dX2_define_149 : decode cX2_define 149 = .ok (.iload 6, 2) := dk_21 6 (dk_at dksX2_define_6 9 rfl rfl)
theorem dX2_define_151 : decode cX2_define 151 = .ok (.sipush 576, 3) := dk_17 2 64 (dk_at dksX2_define_6 11 rfl rfl)
theorem dX2_define_154 : decode cX2_define 154 = .ok (.if_icmp .ge 39, 3) := dk_162 0 39 (dk_at dksX2_define_6 14 rfl rfl)
theorem dX2_define_157 : decode cX2_define 157 = .ok (.aload_n 0, 1) := dk_42 (dk_at dksX2_define_6 17 rfl rfl)
theorem dX2_define_158 : decode cX2_define 158 = .ok (.getfield 9, 3) := dk_180 0 9 (dk_at dksX2_define_6 18 rfl rfl)
theorem dX2_define_161 : decode cX2_define 161 = .ok (.iload 5, 2) := dk_21 5 (dk_at dksX2_define_6 21 rfl rfl)
theorem dX2_define_163 : decode cX2_define 163 = .ok (.iconst 0, 1) := dk_3 (dk_at dksX2_define_6 23 rfl rfl)
theorem dX2_define_164 : decode cX2_define 164 = .ok (.iconst 0, 1) := dk_3 (dk_at dksX2_define_7 0 rfl rfl)
theorem dX2_define_165 : decode cX2_define 165 = .ok (.invokestatic 67, 3) := dk_184 0 67 (dk_at dksX2_define_7 1 rfl rfl)
theorem dX2_define_168 : decode cX2_define 168 = .ok (.iload 6, 2) := dk_21 6 (dk_at dksX2_define_7 4 rfl rfl)
theorem dX2_define_170 : decode cX2_define 170 = .ok (.iadd, 1) := dk_96 (dk_at dksX2_define_7 6 rfl rfl)
theorem dX2_define_171 : decode cX2_define 171 = .ok (.aload_n 0, 1) := dk_42 (dk_at dksX2_define_7 7 rfl rfl)
theorem dX2_define_172 : decode cX2_define 172 = .ok (.getfield 9, 3) := dk_180 0 9 (dk_at dksX2_define_7 8 rfl rfl)
theorem dX2_define_175 : decode cX2_define 175 = .ok (.bipush 16, 2) := dk_16 16 (dk_at dksX2_define_7 11 rfl rfl)
theorem dX2_define_177 : decode cX2_define 177 = .ok (.iconst 0, 1) := dk_3 (dk_at dksX2_define_7 13 rfl rfl)
theorem dX2_define_178 : decode cX2_define 178 = .ok (.iconst 0, 1) := dk_3 (dk_at dksX2_define_7 14 rfl rfl)
theorem dX2_define_179 : decode cX2_define 179 = .ok (.invokestatic 67, 3) := dk_184 0 67 (dk_at dksX2_define_7 15 rfl rfl)
theorem dX2_define_182 : decode cX2_define 182 = .ok (.iload 6, 2) := dk_21 6 (dk_at dksX2_define_7 18 rfl rfl)
theorem dX2_define_184 : decode cX2_define 184 = .ok (.iadd, 1) := dk_96 (dk_at dksX2_define_7 20 rfl rfl)
theorem dX2_define_185 : decode cX2_define 185 = .ok (.iaload, 1) := dk_46 (dk_at dksX2_define_7 21 rfl rfl)
theorem dX2_define_186 : decode cX2_define 186 = .ok (.iastore, 1) := dk_79 (dk_at dksX2_define_7 22 rfl rfl)
theorem dX2_define_187 : decode cX2_define 187 = .ok (.iinc 6 1, 3) := dk_132 6 1 (dk_at dksX2_define_8 0 rfl rfl)
theorem dX2_define_190 : decode cX2_define 190 = .ok (.goto (-41), 3) := dk_167 255 215 (dk_at dksX2_define_8 3 rfl rfl)
theorem dX2_define_193 : decode cX2_define 193 = .ok (.aload_n 0, 1) := dk_42 (dk_at dksX2_define_8 6 rfl rfl)
theorem dX2_define_194 : decode cX2_define 194 = .ok (.getfield 16, 3) := dk_180 0 16 (dk_at dksX2_define_8 7 rfl rfl)
theorem dX2_define_197 : decode cX2_define 197 = .ok (.iconst 4, 1) := dk_7 (dk_at dksX2_define_8 10 rfl rfl)
theorem dX2_define_198 : decode cX2_define 198 = .ok (.iload 5, 2) := dk_21 5 (dk_at dksX2_define_8 11 rfl rfl)
theorem dX2_define_200 : decode cX2_define 200 = .ok (.imul, 1) := dk_104 (dk_at dksX2_define_8 13 rfl rfl)
theorem dX2_define_201 : decode cX2_define 201 = .ok (.aload_n 0, 1) := dk_42 (dk_at dksX2_define_8 14 rfl rfl)
theorem dX2_define_202 : decode cX2_define 202 = .ok (.getfield 71, 3) := dk_180 0 71 (dk_at dksX2_define_8 15 rfl rfl)
theorem dX2_define_205 : decode cX2_define 205 = .ok (.iastore, 1) := dk_79 (dk_at dksX2_define_8 18 rfl rfl)
theorem dX2_define_206 : decode cX2_define 206 = .ok (.aload_n 0, 1) := dk_42 (dk_at dksX2_define_8 19 rfl rfl)
theorem dX2_define_207 : decode cX2_define 207 = .ok (.getfield 16, 3) := dk_180 0 16 (dk_at dksX2_define_8 20 rfl rfl)
theorem dX2_define_210 : decode cX2_define 210 = .ok (.iconst 4, 1) := dk_7 (dk_at dksX2_define_8 23 rfl rfl)
theorem dX2_define_211 : decode cX2_define 211 = .ok (.iload 5, 2) := dk_21 5 (dk_at dksX2_define_9 0 rfl rfl)
theorem dX2_define_213 : decode cX2_define 213 = .ok (.imul, 1) := dk_104 (dk_at dksX2_define_9 2 rfl rfl)
theorem dX2_define_214 : decode cX2_define 214 = .ok (.iconst 1, 1) := dk_4 (dk_at dksX2_define_9 3 rfl rfl)
theorem dX2_define_215 : decode cX2_define 215 = .ok (.iadd, 1) := dk_96 (dk_at dksX2_define_9 4 rfl rfl)
theorem dX2_define_216 : decode cX2_define 216 = .ok (.aload_n 0, 1) := dk_42 (dk_at dksX2_define_9 5 rfl rfl)
theorem dX2_define_217 : decode cX2_define 217 = .ok (.getfield 91, 3) := dk_180 0 91 (dk_at dksX2_define_9 6 rfl rfl)
theorem dX2_define_220 : decode cX2_define 220 = .ok (.iastore, 1) := dk_79 (dk_at dksX2_define_9 9 rfl rfl)
theorem dX2_define_221 : decode cX2_define 221 = .ok (.aload_n 0, 1) := dk_42 (dk_at dksX2_define_9 10 rfl rfl)
theorem dX2_define_222 : decode cX2_define 222 = .ok (.getfield 16, 3) := dk_180 0 16 (dk_at dksX2_define_9 11 rfl rfl)
theorem dX2_define_225 : decode cX2_define 225 = .ok (.iconst 4, 1) := dk_7 (dk_at dksX2_define_9 14 rfl rfl)
theorem dX2_define_226 : decode cX2_define 226 = .ok (.iload 5, 2) := dk_21 5 (dk_at dksX2_define_9 15 rfl rfl)
theorem dX2_define_228 : decode cX2_define 228 = .ok (.imul, 1) := dk_104 (dk_at dksX2_define_9 17 rfl rfl)
theorem dX2_define_229 : decode cX2_define 229 = .ok (.iconst 2, 1) := dk_5 (dk_at dksX2_define_9 18 rfl rfl)
theorem dX2_define_230 : decode cX2_define 230 = .ok (.iadd, 1) := dk_96 (dk_at dksX2_define_9 19 rfl rfl)
theorem dX2_define_231 : decode cX2_define 231 = .ok (.aload_n 0, 1) := dk_42 (dk_at dksX2_define_9 20 rfl rfl)
theorem dX2_define_232 : decode cX2_define 232 = .ok (.getfield 124, 3) := dk_180 0 124 (dk_at dksX2_define_9 21 rfl rfl)
theorem dX2_define_235 : decode cX2_define 235 = .ok (.iastore, 1) := dk_79 (dk_at dksX2_define_10 0 rfl rfl)
theorem dX2_define_236 : decode cX2_define 236 = .ok (.aload_n 0, 1) := dk_42 (dk_at dksX2_define_10 1 rfl rfl)
theorem dX2_define_237 : decode cX2_define 237 = .ok (.getfield 16, 3) := dk_180 0 16 (dk_at dksX2_define_10 2 rfl rfl)
theorem dX2_define_240 : decode cX2_define 240 = .ok (.iconst 4, 1) := dk_7 (dk_at dksX2_define_10 5 rfl rfl)
theorem dX2_define_241 : decode cX2_define 241 = .ok (.iload 5, 2) := dk_21 5 (dk_at dksX2_define_10 6 rfl rfl)
theorem dX2_define_243 : decode cX2_define 243 = .ok (.imul, 1) := dk_104 (dk_at dksX2_define_10 8 rfl rfl)
theorem dX2_define_244 : decode cX2_define 244 = .ok (.iconst 3, 1) := dk_6 (dk_at dksX2_define_10 9 rfl rfl)
theorem dX2_define_245 : decode cX2_define 245 = .ok (.iadd, 1) := dk_96 (dk_at dksX2_define_10 10 rfl rfl)
theorem dX2_define_246 : decode cX2_define 246 = .ok (.iload_n 3, 1) := dk_29 (dk_at dksX2_define_10 11 rfl rfl)
theorem dX2_define_247 : decode cX2_define 247 = .ok (.iastore, 1) := dk_79 (dk_at dksX2_define_10 12 rfl rfl)
theorem dX2_define_248 : decode cX2_define 248 = .ok (.aload_n 0, 1) := dk_42 (dk_at dksX2_define_10 13 rfl rfl)
theorem dX2_define_249 : decode cX2_define 249 = .ok (.getfield 22, 3) := dk_180 0 22 (dk_at dksX2_define_10 14 rfl rfl)
theorem dX2_define_252 : decode cX2_define 252 = .ok (.bipush 17, 2) := dk_16 17 (dk_at dksX2_define_10 17 rfl rfl)
theorem dX2_define_254 : decode cX2_define 254 = .ok (.iload_n 1, 1) := dk_27 (dk_at dksX2_define_10 19 rfl rfl)
theorem dX2_define_255 : decode cX2_define 255 = .ok (.iadd, 1) := dk_96 (dk_at dksX2_define_10 20 rfl rfl)
theorem dX2_define_256 : decode cX2_define 256 = .ok (.dup2, 1) := dk_92 (dk_at dksX2_define_10 21 rfl rfl)
theorem dX2_define_257 : decode cX2_define 257 = .ok (.iaload, 1) := dk_46 (dk_at dksX2_define_10 22 rfl rfl)
theorem dX2_define_258 : decode cX2_define 258 = .ok (.iconst 1, 1) := dk_4 (dk_at dksX2_define_10 23 rfl rfl)
theorem dX2_define_259 : decode cX2_define 259 = .ok (.iadd, 1) := dk_96 (dk_at dksX2_define_11 0 rfl rfl)
theorem dX2_define_260 : decode cX2_define 260 = .ok (.iastore, 1) := dk_79 (dk_at dksX2_define_11 1 rfl rfl)
theorem dX2_define_261 : decode cX2_define 261 = .ok (.iload 4, 2) := dk_21 4 (dk_at dksX2_define_11 2 rfl rfl)
theorem dX2_define_263 : decode cX2_define 263 = .ok (.ireturn, 1) := dk_172 (dk_at dksX2_define_11 4 rfl rfl)
def t_X2_define (p1 : Int32) (w0 : TS) : Option (Int32 × TS) := gB2 (t_X2_isWorkflow p1 w0) fun x2 w1 => if x2 = 0 then some ((-1), w1) else gB1 (tLd w1 5 ((nI 17) + p1)) fun x4 => if x4 = (nI 4) then some ((-4), w1) else gBd (tPut w1 12 (nI 0)) fun w6 => gBd (tPut w6 13 (nI 1)) fun w7 => gBd (tPut w7 14 (nI 0)) fun w8 => gBd (tPut w8 15 (nI 0)) fun w9 => gBd (tPut w9 16 (nI 0)) fun w10 => gBd (tPut w10 17 (nI 0)) fun w11 => gB2 (t_X2_readsBody 12 (-1) (-1) w11) fun x13 w12 => gBd (fun (x16 : Int32) (x17 : Int32) (w15 : TS) => gBd (w15 0 9) fun x18 => gBd (tPut w15 9 (nI 0)) fun w19 => gBd (fun (x22 : Int32) (x23 : Int32) (x24 : Int32) (x25 : Int32) (w21 : TS) => gBd (tPut w21 10 x25) fun w26 => gBd (tPut w26 11 (w26 0 13)) fun w27 => if x23 = 0 then some (((-100) - (w27 0 12)), w27) else gB1 (tLd w27 5 ((nI 17) + x22)) fun x29 => gBd (((nI 4) * x22) + x29) fun x30 => gL5 (fun k37 (x32 : Int32) (x33 : Int32) (x34 : Int32) (x35 : Int32) (x36 : Int32) (w31 : TS) => if (nI 576) ≤ x36 then gB1 (tSt w31 3 ((nI 4) * x35) (w31 0 14)) fun w39 => gB1 (tSt w39 3 (((nI 4) * x35) + (nI 1)) (w39 0 15)) fun w40 => gB1 (tSt w40 3 (((nI 4) * x35) + (nI 2)) (w40 0 17)) fun w41 => gB1 (tSt w41 3 (((nI 4) * x35) + (nI 3)) x33) fun w42 => gB1 (tLd w42 5 ((nI 17) + x32)) fun x43 => gB1 (tSt w42 5 ((nI 17) + x32) (x43 + (nI 1))) fun w44 => some (x34, w44) else gB2 (t_X2_part x35 (nI 0) (nI 0) w31) fun x46 w45 => gB2 (t_X2_part (nI 16) (nI 0) (nI 0) w45) fun x48 w47 => gB1 (tLd w47 1 (x48 + x36)) fun x49 => gB1 (tSt w47 1 (x46 + x36) x49) fun w50 => gBd (x36 + (nI 1)) fun x51 => k37 x32 x33 x34 x35 x51 w50) 20000 x22 x24 x29 x30 (nI 0) w27) fun k20 => if x17 = 0 then k20 x16 x17 x18 (w19 0 12) w19 else k20 x16 x17 x18 (-1) w19) fun k14 => gBd (fun (x55 : Int32) (w54 : TS) => k14 x55 (nI 0) w54) fun k53 => if x13 = 0 then k53 p1 w12 else if (w12 0 12) = (w12 0 9) then k14 p1 (nI 1) w12 else k53 p1 w12
set_option maxHeartbeats 4000000 in
set_option maxRecDepth 100000 in
theorem kt_X2_define {D : va_G} {dA : Nat → ClassId} {A : Nat → Prop} {K : Nat → Nat} {l : Launch} {wb : gw} {ad : Nat → Nat} (hinj : tInj ad) {h : Nat} (hh : 42 ≤ h) {p1 : Int32} {w0 ww : TS} {rr : Int32} (hf : t_X2_define p1 w0 = some (rr, ww)) : gMet D dA A K l yX2_define (ws_ yX2_define cX2_define 7 (some .int)) h [(ga (some (ad 0))), (gi p1)] (some (gi rr)) (twOf wb ad w0) (twOf wb ad ww) := by
  refine j_start (own := RX2) (by decide +kernel) rfl (Nat.le_of_ble_eq_true rfl) ?_
  intro p e R s m args below meth c C hr hin hw
  unfold t_X2_define at hf
  show gJ D dA A K p l e R s m args below meth c (gEnd D dA A K below args s (twOf wb ad w0) (some (gi rr)) (twOf wb ad ww)) 7 0 [(0, (ga (some (ad 0)))), (1, (gi p1))] [] (twOf wb ad w0)
  refine j_iload_n C dX2_define_0 rfl ?_
  replace hf := gB2_e hf
  obtain ⟨x2, w1, ew1, hf⟩ := hf
  refine j_callS (As := [(gi p1)]) (rest := []) (v := (some (gi x2))) C (by omega) (kt_X2_isWorkflow hinj (by omega) ew1) q1669 q1670 q93 q1671 hd_X2_isWorkflow (by decide) rfl (Nat.le_of_ble_eq_true rfl) dX2_define_1 ?_
  refine j_if_ne (tgt := 9) C dX2_define_4 (by decide) (fun c3 => ?_) (fun c3 => ?_)
  · replace hf := gIf_f hf c3
    refine j_aload_n C dX2_define_9 rfl ?_
    refine j_get (v := (ga (some (ad 5)))) C fl_X2_22_2 dX2_define_10 (tw_F hinj rfl) ?_
    refine j_bipush (v := (nI 17)) C dX2_define_13 (by decide) ?_
    refine j_iload_n C dX2_define_15 rfl ?_
    refine j_iadd C dX2_define_16 ?_
    replace hf := gB1_e hf
    obtain ⟨x4, ex4, hf⟩ := hf
    refine j_iald C (tw_ld hinj ex4) dX2_define_17 ?_
    refine j_iconst (v := (nI 4)) C dX2_define_18 (by decide) ?_
    refine j_icmp_ne (tgt := 25) C dX2_define_19 (by decide) (fun c5 => ?_) (fun c5 => ?_)
    · replace hf := gIf_f hf c5
      refine j_aload_n C dX2_define_25 rfl ?_
      refine j_iconst (v := (nI 0)) C dX2_define_26 (by decide) ?_
      replace hf := gBd_x hf
      obtain ⟨w6, ew6, hf⟩ := hf
      refine j_put C fl_X2_45_2 tb_2 (tw_put hinj ew6 rfl (by decide)) fk_2_12 (fit_I (nI 0)) dX2_define_27 ?_
      refine j_aload_n C dX2_define_30 rfl ?_
      refine j_iconst (v := (nI 1)) C dX2_define_31 (by decide) ?_
      replace hf := gBd_x hf
      obtain ⟨w7, ew7, hf⟩ := hf
      refine j_put C fl_X2_78_2 tb_2 (tw_put hinj ew7 rfl (by decide)) fk_2_13 (fit_I (nI 1)) dX2_define_32 ?_
      refine j_aload_n C dX2_define_35 rfl ?_
      refine j_iconst (v := (nI 0)) C dX2_define_36 (by decide) ?_
      replace hf := gBd_x hf
      obtain ⟨w8, ew8, hf⟩ := hf
      refine j_put C fl_X2_71_2 tb_2 (tw_put hinj ew8 rfl (by decide)) fk_2_14 (fit_I (nI 0)) dX2_define_37 ?_
      refine j_aload_n C dX2_define_40 rfl ?_
      refine j_iconst (v := (nI 0)) C dX2_define_41 (by decide) ?_
      replace hf := gBd_x hf
      obtain ⟨w9, ew9, hf⟩ := hf
      refine j_put C fl_X2_91_2 tb_2 (tw_put hinj ew9 rfl (by decide)) fk_2_15 (fit_I (nI 0)) dX2_define_42 ?_
      refine j_aload_n C dX2_define_45 rfl ?_
      refine j_iconst (v := (nI 0)) C dX2_define_46 (by decide) ?_
      replace hf := gBd_x hf
      obtain ⟨w10, ew10, hf⟩ := hf
      refine j_put C fl_X2_94_2 tb_2 (tw_put hinj ew10 rfl (by decide)) fk_2_16 (fit_I (nI 0)) dX2_define_47 ?_
      refine j_aload_n C dX2_define_50 rfl ?_
      refine j_iconst (v := (nI 0)) C dX2_define_51 (by decide) ?_
      replace hf := gBd_x hf
      obtain ⟨w11, ew11, hf⟩ := hf
      refine j_put C fl_X2_124_2 tb_2 (tw_put hinj ew11 rfl (by decide)) fk_2_17 (fit_I (nI 0)) dX2_define_52 ?_
      refine j_aload_n C dX2_define_55 rfl ?_
      refine j_iconst (v := (-1)) C dX2_define_56 (by decide) ?_
      refine j_iconst (v := (-1)) C dX2_define_57 (by decide) ?_
      replace hf := gB2_e hf
      obtain ⟨x13, w12, ew12, hf⟩ := hf
      refine j_callV (As := [(gi (-1)), (gi (-1))]) (rest := []) (v := (some (gi x13))) C (by omega) (kt_X2_readsBody hinj 12 (by omega) ew12) (tw_cls hinj) rfl q1672 q1674 qs34 q93 q1675 ⟨rfl, hd_X2_readsBody⟩ (by decide) rfl (Nat.le_of_ble_eq_true rfl) dX2_define_58 ?_
      replace hf := gBd_x hf
      obtain ⟨k14, ek14, hf⟩ := hf
      have jk14 : ∀ (x16 : Int32) (x17 : Int32) (w15 : TS), k14 x16 x17 w15 = some (rr, ww) → gJ D dA A K p l e R s m args below meth c (gEnd D dA A K below args s (twOf wb ad w0) (some (gi rr)) (twOf wb ad ww)) 7 80 [(0, (ga (some (ad 0)))), (1, (gi x16))] [(gi x17)] (twOf wb ad w15) := by
        intro x16 x17 w15 hf
        rw [ek14] at hf
        dsimp only at hf
        refine j_istore_n (lv' := [(2, (gi x17)), (0, (ga (some (ad 0)))), (1, (gi x16))]) C dX2_define_80 (by decide) rfl ?_
        refine j_aload_n C dX2_define_81 rfl ?_
        refine j_get (v := (gi (w15 0 9))) C fl_X2_42_2 dX2_define_82 (tw_F hinj rfl) ?_
        replace hf := gBd_x hf
        obtain ⟨x18, ex18, hf⟩ := hf
        refine j_nm ex18 ?_
        refine j_istore_n (lv' := [(3, (gi x18)), (2, (gi x17)), (0, (ga (some (ad 0)))), (1, (gi x16))]) C dX2_define_85 (by decide) rfl ?_
        refine j_aload_n C dX2_define_86 rfl ?_
        refine j_iconst (v := (nI 0)) C dX2_define_87 (by decide) ?_
        replace hf := gBd_x hf
        obtain ⟨w19, ew19, hf⟩ := hf
        refine j_put C fl_X2_42_2 tb_2 (tw_put hinj ew19 rfl (by decide)) fk_2_9 (fit_I (nI 0)) dX2_define_88 ?_
        refine j_aload_n C dX2_define_91 rfl ?_
        refine j_iload_n C dX2_define_92 rfl ?_
        replace hf := gBd_x hf
        obtain ⟨k20, ek20, hf⟩ := hf
        have jk20 : ∀ (x22 : Int32) (x23 : Int32) (x24 : Int32) (x25 : Int32) (w21 : TS), k20 x22 x23 x24 x25 w21 = some (rr, ww) → gJ D dA A K p l e R s m args below meth c (gEnd D dA A K below args s (twOf wb ad w0) (some (gi rr)) (twOf wb ad ww)) 7 104 [(0, (ga (some (ad 0)))), (1, (gi x22)), (2, (gi x23)), (3, (gi x24))] [(gi x25), (ga (some (ad 0)))] (twOf wb ad w21) := by
          intro x22 x23 x24 x25 w21 hf
          rw [ek20] at hf
          dsimp only at hf
          replace hf := gBd_x hf
          obtain ⟨w26, ew26, hf⟩ := hf
          refine j_put C fl_X2_34_2 tb_2 (tw_put hinj ew26 rfl (by decide)) fk_2_10 (fit_I x25) dX2_define_104 ?_
          refine j_aload_n C dX2_define_107 rfl ?_
          refine j_aload_n C dX2_define_108 rfl ?_
          refine j_get (v := (gi (w26 0 13))) C fl_X2_78_2 dX2_define_109 (tw_F hinj rfl) ?_
          replace hf := gBd_x hf
          obtain ⟨w27, ew27, hf⟩ := hf
          refine j_put C fl_X2_141_2 tb_2 (tw_put hinj ew27 rfl (by decide)) fk_2_11 (fit_I (w26 0 13)) dX2_define_112 ?_
          refine j_iload_n C dX2_define_115 rfl ?_
          refine j_if_ne (tgt := 127) C dX2_define_116 (by decide) (fun c28 => ?_) (fun c28 => ?_)
          · replace hf := gIf_f hf c28
            refine j_aload_n C dX2_define_127 rfl ?_
            refine j_get (v := (ga (some (ad 5)))) C fl_X2_22_2 dX2_define_128 (tw_F hinj rfl) ?_
            refine j_bipush (v := (nI 17)) C dX2_define_131 (by decide) ?_
            refine j_iload_n C dX2_define_133 rfl ?_
            refine j_iadd C dX2_define_134 ?_
            replace hf := gB1_e hf
            obtain ⟨x29, ex29, hf⟩ := hf
            refine j_iald C (tw_ld hinj ex29) dX2_define_135 ?_
            refine j_istore (lv' := [(4, (gi x29)), (0, (ga (some (ad 0)))), (1, (gi x22)), (2, (gi x23)), (3, (gi x24))]) C dX2_define_136 (by decide) rfl ?_
            refine j_iconst (v := (nI 4)) C dX2_define_138 (by decide) ?_
            refine j_iload_n C dX2_define_139 rfl ?_
            refine j_imul C dX2_define_140 ?_
            refine j_iload C dX2_define_141 rfl ?_
            refine j_iadd C dX2_define_143 ?_
            replace hf := gBd_x hf
            obtain ⟨x30, ex30, hf⟩ := hf
            refine j_nm ex30 ?_
            refine j_istore (lv' := [(5, (gi x30)), (4, (gi x29)), (0, (ga (some (ad 0)))), (1, (gi x22)), (2, (gi x23)), (3, (gi x24))]) C dX2_define_144 (by decide) rfl ?_
            refine j_iconst (v := (nI 0)) C dX2_define_146 (by decide) ?_
            refine j_istore (lv' := [(6, (gi (nI 0))), (5, (gi x30)), (4, (gi x29)), (0, (ga (some (ad 0)))), (1, (gi x22)), (2, (gi x23)), (3, (gi x24))]) C dX2_define_147 (by decide) rfl ?_
            refine j_sub (lv' := [(0, (ga (some (ad 0)))), (1, (gi x22)), (3, (gi x24)), (4, (gi x29)), (5, (gi x30)), (6, (gi (nI 0)))]) (gL_cons rfl (gL_cons rfl (gL_cons rfl (gL_cons rfl (gL_cons rfl (gL_cons rfl (gL_nil))))))) ?_
            refine gL5_e (fun (x32 : Int32) (x33 : Int32) (x34 : Int32) (x35 : Int32) (x36 : Int32) (w31 : TS) => gJ D dA A K p l e R s m args below meth c (gEnd D dA A K below args s (twOf wb ad w0) (some (gi rr)) (twOf wb ad ww)) 7 149 [(0, (ga (some (ad 0)))), (1, (gi x32)), (3, (gi x33)), (4, (gi x34)), (5, (gi x35)), (6, (gi x36))] [] (twOf wb ad w31)) ?_ _ _ _ _ _ _ _ hf
            intro k37 jk37 x32 x33 x34 x35 x36 w31 hf
            refine j_iload C dX2_define_149 rfl ?_
            refine j_sipush (v := (nI 576)) C dX2_define_151 (by decide) ?_
            refine j_icmp_ge (tgt := 193) C dX2_define_154 (by decide) (fun c38 => ?_) (fun c38 => ?_)
            · replace hf := gIf_t hf c38
              refine j_aload_n C dX2_define_193 rfl ?_
              refine j_get (v := (ga (some (ad 3)))) C fl_X2_16_2 dX2_define_194 (tw_F hinj rfl) ?_
              refine j_iconst (v := (nI 4)) C dX2_define_197 (by decide) ?_
              refine j_iload C dX2_define_198 rfl ?_
              refine j_imul C dX2_define_200 ?_
              refine j_aload_n C dX2_define_201 rfl ?_
              refine j_get (v := (gi (w31 0 14))) C fl_X2_71_2 dX2_define_202 (tw_F hinj rfl) ?_
              replace hf := gB1_e hf
              obtain ⟨w39, ew39, hf⟩ := hf
              refine j_iast C (tw_st hinj ew39) dX2_define_205 ?_
              refine j_aload_n C dX2_define_206 rfl ?_
              refine j_get (v := (ga (some (ad 3)))) C fl_X2_16_2 dX2_define_207 (tw_F hinj rfl) ?_
              refine j_iconst (v := (nI 4)) C dX2_define_210 (by decide) ?_
              refine j_iload C dX2_define_211 rfl ?_
              refine j_imul C dX2_define_213 ?_
              refine j_iconst (v := (nI 1)) C dX2_define_214 (by decide) ?_
              refine j_iadd C dX2_define_215 ?_
              refine j_aload_n C dX2_define_216 rfl ?_
              refine j_get (v := (gi (w39 0 15))) C fl_X2_91_2 dX2_define_217 (tw_F hinj rfl) ?_
              replace hf := gB1_e hf
              obtain ⟨w40, ew40, hf⟩ := hf
              refine j_iast C (tw_st hinj ew40) dX2_define_220 ?_
              refine j_aload_n C dX2_define_221 rfl ?_
              refine j_get (v := (ga (some (ad 3)))) C fl_X2_16_2 dX2_define_222 (tw_F hinj rfl) ?_
              refine j_iconst (v := (nI 4)) C dX2_define_225 (by decide) ?_
              refine j_iload C dX2_define_226 rfl ?_
              refine j_imul C dX2_define_228 ?_
              refine j_iconst (v := (nI 2)) C dX2_define_229 (by decide) ?_
              refine j_iadd C dX2_define_230 ?_
              refine j_aload_n C dX2_define_231 rfl ?_
              refine j_get (v := (gi (w40 0 17))) C fl_X2_124_2 dX2_define_232 (tw_F hinj rfl) ?_
              replace hf := gB1_e hf
              obtain ⟨w41, ew41, hf⟩ := hf
              refine j_iast C (tw_st hinj ew41) dX2_define_235 ?_
              refine j_aload_n C dX2_define_236 rfl ?_
              refine j_get (v := (ga (some (ad 3)))) C fl_X2_16_2 dX2_define_237 (tw_F hinj rfl) ?_
              refine j_iconst (v := (nI 4)) C dX2_define_240 (by decide) ?_
              refine j_iload C dX2_define_241 rfl ?_
              refine j_imul C dX2_define_243 ?_
              refine j_iconst (v := (nI 3)) C dX2_define_244 (by decide) ?_
              refine j_iadd C dX2_define_245 ?_
              refine j_iload_n C dX2_define_246 rfl ?_
              replace hf := gB1_e hf
              obtain ⟨w42, ew42, hf⟩ := hf
              refine j_iast C (tw_st hinj ew42) dX2_define_247 ?_
              refine j_aload_n C dX2_define_248 rfl ?_
              refine j_get (v := (ga (some (ad 5)))) C fl_X2_22_2 dX2_define_249 (tw_F hinj rfl) ?_
              refine j_bipush (v := (nI 17)) C dX2_define_252 (by decide) ?_
              refine j_iload_n C dX2_define_254 rfl ?_
              refine j_iadd C dX2_define_255 ?_
              refine j_dup2 C dX2_define_256 ?_
              replace hf := gB1_e hf
              obtain ⟨x43, ex43, hf⟩ := hf
              refine j_iald C (tw_ld hinj ex43) dX2_define_257 ?_
              refine j_iconst (v := (nI 1)) C dX2_define_258 (by decide) ?_
              refine j_iadd C dX2_define_259 ?_
              replace hf := gB1_e hf
              obtain ⟨w44, ew44, hf⟩ := hf
              refine j_iast C (tw_st hinj ew44) dX2_define_260 ?_
              refine j_iload C dX2_define_261 rfl ?_
              obtain ⟨rfl, rfl⟩ := gSome hf
              exact j_iret C hr hw dX2_define_263
            · replace hf := gIf_f hf c38
              refine j_aload_n C dX2_define_157 rfl ?_
              refine j_get (v := (ga (some (ad 1)))) C fl_X2_9_2 dX2_define_158 (tw_F hinj rfl) ?_
              refine j_iload C dX2_define_161 rfl ?_
              refine j_iconst (v := (nI 0)) C dX2_define_163 (by decide) ?_
              refine j_iconst (v := (nI 0)) C dX2_define_164 (by decide) ?_
              replace hf := gB2_e hf
              obtain ⟨x46, w45, ew45, hf⟩ := hf
              refine j_callS (As := [(gi x35), (gi (nI 0)), (gi (nI 0))]) (rest := [(ga (some (ad 1)))]) (v := (some (gi x46))) C (by omega) (kt_X2_part hinj (by omega) ew45) q1684 q1685 q93 q1686 hd_X2_part (by decide) rfl (Nat.le_of_ble_eq_true rfl) dX2_define_165 ?_
              refine j_iload C dX2_define_168 rfl ?_
              refine j_iadd C dX2_define_170 ?_
              refine j_aload_n C dX2_define_171 rfl ?_
              refine j_get (v := (ga (some (ad 1)))) C fl_X2_9_2 dX2_define_172 (tw_F hinj rfl) ?_
              refine j_bipush (v := (nI 16)) C dX2_define_175 (by decide) ?_
              refine j_iconst (v := (nI 0)) C dX2_define_177 (by decide) ?_
              refine j_iconst (v := (nI 0)) C dX2_define_178 (by decide) ?_
              replace hf := gB2_e hf
              obtain ⟨x48, w47, ew47, hf⟩ := hf
              refine j_callS (As := [(gi (nI 16)), (gi (nI 0)), (gi (nI 0))]) (rest := [(ga (some (ad 1))), (gi (x46 + x36)), (ga (some (ad 1)))]) (v := (some (gi x48))) C (by omega) (kt_X2_part hinj (by omega) ew47) q1684 q1685 q93 q1686 hd_X2_part (by decide) rfl (Nat.le_of_ble_eq_true rfl) dX2_define_179 ?_
              refine j_iload C dX2_define_182 rfl ?_
              refine j_iadd C dX2_define_184 ?_
              replace hf := gB1_e hf
              obtain ⟨x49, ex49, hf⟩ := hf
              refine j_iald C (tw_ld hinj ex49) dX2_define_185 ?_
              replace hf := gB1_e hf
              obtain ⟨w50, ew50, hf⟩ := hf
              refine j_iast C (tw_st hinj ew50) dX2_define_186 ?_
              replace hf := gBd_x hf
              obtain ⟨x51, ex51, hf⟩ := hf
              refine j_iinc (v := x51) (lv' := [(6, (gi x51)), (0, (ga (some (ad 0)))), (1, (gi x32)), (3, (gi x33)), (4, (gi x34)), (5, (gi x35))]) C dX2_define_187 rfl (by rw [ex51]; rfl) (by decide) rfl ?_
              refine j_goto (tgt := 149) C dX2_define_190 (by decide) ?_
              refine j_sub (lv' := [(0, (ga (some (ad 0)))), (1, (gi x32)), (3, (gi x33)), (4, (gi x34)), (5, (gi x35)), (6, (gi x51))]) (gL_cons rfl (gL_cons rfl (gL_cons rfl (gL_cons rfl (gL_cons rfl (gL_cons rfl (gL_nil))))))) ?_
              exact jk37 _ _ _ _ _ _ hf
          · replace hf := gIf_t hf c28
            refine j_bipush (v := (-100)) C dX2_define_119 (by decide) ?_
            refine j_aload_n C dX2_define_121 rfl ?_
            refine j_get (v := (gi (w27 0 12))) C fl_X2_45_2 dX2_define_122 (tw_F hinj rfl) ?_
            refine j_isub C dX2_define_125 ?_
            obtain ⟨rfl, rfl⟩ := gSome hf
            exact j_iret C hr hw dX2_define_126
        clear ek20
        refine j_if_eq (tgt := 100) C dX2_define_93 (by decide) (fun c52 => ?_) (fun c52 => ?_)
        · replace hf := gIf_t hf c52
          refine j_aload_n C dX2_define_100 rfl ?_
          refine j_get (v := (gi (w19 0 12))) C fl_X2_45_2 dX2_define_101 (tw_F hinj rfl) ?_
          refine j_sub (lv' := [(0, (ga (some (ad 0)))), (1, (gi x16)), (2, (gi x17)), (3, (gi x18))]) (gL_cons rfl (gL_cons rfl (gL_cons rfl (gL_cons rfl (gL_nil))))) ?_
          exact jk20 _ _ _ _ _ hf
        · replace hf := gIf_f hf c52
          refine j_iconst (v := (-1)) C dX2_define_96 (by decide) ?_
          refine j_goto (tgt := 104) C dX2_define_97 (by decide) ?_
          refine j_sub (lv' := [(0, (ga (some (ad 0)))), (1, (gi x16)), (2, (gi x17)), (3, (gi x18))]) (gL_cons rfl (gL_cons rfl (gL_cons rfl (gL_cons rfl (gL_nil))))) ?_
          exact jk20 _ _ _ _ _ hf
      clear ek14
      replace hf := gBd_x hf
      obtain ⟨k53, ek53, hf⟩ := hf
      have jk53 : ∀ (x55 : Int32) (w54 : TS), k53 x55 w54 = some (rr, ww) → gJ D dA A K p l e R s m args below meth c (gEnd D dA A K below args s (twOf wb ad w0) (some (gi rr)) (twOf wb ad ww)) 7 79 [(0, (ga (some (ad 0)))), (1, (gi x55))] [] (twOf wb ad w54) := by
        intro x55 w54 hf
        rw [ek53] at hf
        dsimp only at hf
        refine j_iconst (v := (nI 0)) C dX2_define_79 (by decide) ?_
        exact jk14 _ _ _ hf
      clear ek53
      refine j_if_eq (tgt := 79) C dX2_define_61 (by decide) (fun c56 => ?_) (fun c56 => ?_)
      · replace hf := gIf_t hf c56
        exact jk53 _ _ hf
      · replace hf := gIf_f hf c56
        refine j_aload_n C dX2_define_64 rfl ?_
        refine j_get (v := (gi (w12 0 12))) C fl_X2_45_2 dX2_define_65 (tw_F hinj rfl) ?_
        refine j_aload_n C dX2_define_68 rfl ?_
        refine j_get (v := (gi (w12 0 9))) C fl_X2_42_2 dX2_define_69 (tw_F hinj rfl) ?_
        refine j_icmp_ne (tgt := 79) C dX2_define_72 (by decide) (fun c57 => ?_) (fun c57 => ?_)
        · replace hf := gIf_f hf c57
          exact jk53 _ _ hf
        · replace hf := gIf_t hf c57
          refine j_iconst (v := (nI 1)) C dX2_define_75 (by decide) ?_
          refine j_goto (tgt := 80) C dX2_define_76 (by decide) ?_
          exact jk14 _ _ _ hf
    · replace hf := gIf_t hf c5
      refine j_bipush (v := (-4)) C dX2_define_22 (by decide) ?_
      obtain ⟨rfl, rfl⟩ := gSome hf
      exact j_iret C hr hw dX2_define_24
  · replace hf := gIf_t hf c3
    refine j_iconst (v := (-1)) C dX2_define_7 (by decide) ?_
    obtain ⟨rfl, rfl⟩ := gSome hf
    exact j_iret C hr hw dX2_define_8
def dkwX2_width_3 : List UInt8 := [21, 6, 182, 0, 153, 54, 6, 167, 255, 217, 29, 16, 6, 160, 0, 8, 21, 5, 167, 0, 5, 21, 4, 172]
abbrev dktX2_width_3 : List UInt8 := dkwX2_width_3 ++ []
def dkwX2_width_2 : List UInt8 := [182, 0, 150, 54, 7, 21, 4, 21, 7, 184, 0, 127, 54, 4, 21, 5, 21, 7, 96, 54, 5, 42, 27]
abbrev dktX2_width_2 : List UInt8 := dkwX2_width_2 ++ dktX2_width_3
def dkwX2_width_1 : List UInt8 := [3, 54, 4, 3, 54, 5, 42, 27, 28, 182, 0, 147, 54, 6, 21, 6, 155, 0, 40, 42, 27, 21, 6]
abbrev dktX2_width_1 : List UInt8 := dkwX2_width_1 ++ dktX2_width_2
def dkwX2_width_0 : List UInt8 := [42, 27, 28, 182, 0, 144, 62, 29, 153, 0, 16, 29, 8, 159, 0, 11, 29, 16, 6, 159, 0, 5, 4, 172]
abbrev dktX2_width_0 : List UInt8 := dkwX2_width_0 ++ dktX2_width_1
theorem dksX2_width_0 : cX2_width.data.toList.drop 0 = dktX2_width_0 := by decide +kernel
theorem dksX2_width_1 : cX2_width.data.toList.drop 24 = dktX2_width_1 := dk_seg dksX2_width_0 24 rfl rfl
theorem dksX2_width_2 : cX2_width.data.toList.drop 47 = dktX2_width_2 := dk_seg dksX2_width_1 23 rfl rfl
theorem dksX2_width_3 : cX2_width.data.toList.drop 70 = dktX2_width_3 := dk_seg dksX2_width_2 23 rfl rfl
theorem dX2_width_0 : decode cX2_width 0 = .ok (.aload_n 0, 1) := dk_42 (dk_at dksX2_width_0 0 rfl rfl)
theorem dX2_width_1 : decode cX2_width 1 = .ok (.iload_n 1, 1) := dk_27 (dk_at dksX2_width_0 1 rfl rfl)
theorem dX2_width_2 : decode cX2_width 2 = .ok (.iload_n 2, 1) := dk_28 (dk_at dksX2_width_0 2 rfl rfl)
theorem dX2_width_3 : decode cX2_width 3 = .ok (.invokevirtual 144, 3) := dk_182 0 144 (dk_at dksX2_width_0 3 rfl rfl)
theorem dX2_width_6 : decode cX2_width 6 = .ok (.istore_n 3, 1) := dk_62 (dk_at dksX2_width_0 6 rfl rfl)
theorem dX2_width_7 : decode cX2_width 7 = .ok (.iload_n 3, 1) := dk_29 (dk_at dksX2_width_0 7 rfl rfl)
theorem dX2_width_8 : decode cX2_width 8 = .ok (.ifCond .eq 16, 3) := dk_153 0 16 (dk_at dksX2_width_0 8 rfl rfl)
theorem dX2_width_11 : decode cX2_width 11 = .ok (.iload_n 3, 1) := dk_29 (dk_at dksX2_width_0 11 rfl rfl)
theorem dX2_width_12 : decode cX2_width 12 = .ok (.iconst 5, 1) := dk_8 (dk_at dksX2_width_0 12 rfl rfl)
theorem dX2_width_13 : decode cX2_width 13 = .ok (.if_icmp .eq 11, 3) := dk_159 0 11 (dk_at dksX2_width_0 13 rfl rfl)
theorem dX2_width_16 : decode cX2_width 16 = .ok (.iload_n 3, 1) := dk_29 (dk_at dksX2_width_0 16 rfl rfl)
theorem dX2_width_17 : decode cX2_width 17 = .ok (.bipush 6, 2) := dk_16 6 (dk_at dksX2_width_0 17 rfl rfl)
theorem dX2_width_19 : decode cX2_width 19 = .ok (.if_icmp .eq 5, 3) := dk_159 0 5 (dk_at dksX2_width_0 19 rfl rfl)
theorem dX2_width_22 : decode cX2_width 22 = .ok (.iconst 1, 1) := dk_4 (dk_at dksX2_width_0 22 rfl rfl)
theorem dX2_width_23 : decode cX2_width 23 = .ok (.ireturn, 1) := dk_172 (dk_at dksX2_width_0 23 rfl rfl)
theorem dX2_width_24 : decode cX2_width 24 = .ok (.iconst 0, 1) := dk_3 (dk_at dksX2_width_1 0 rfl rfl)
theorem dX2_width_25 : decode cX2_width 25 = .ok (.istore 4, 2) := dk_54 4 (dk_at dksX2_width_1 1 rfl rfl)
theorem dX2_width_27 : decode cX2_width 27 = .ok (.iconst 0, 1) := dk_3 (dk_at dksX2_width_1 3 rfl rfl)
theorem dX2_width_28 : decode cX2_width 28 = .ok (.istore 5, 2) := dk_54 5 (dk_at dksX2_width_1 4 rfl rfl)
theorem dX2_width_30 : decode cX2_width 30 = .ok (.aload_n 0, 1) := dk_42 (dk_at dksX2_width_1 6 rfl rfl)
theorem dX2_width_31 : decode cX2_width 31 = .ok (.iload_n 1, 1) := dk_27 (dk_at dksX2_width_1 7 rfl rfl)
theorem dX2_width_32 : decode cX2_width 32 = .ok (.iload_n 2, 1) := dk_28 (dk_at dksX2_width_1 8 rfl rfl)
theorem dX2_width_33 : decode cX2_width 33 = .ok (.invokevirtual 147, 3) := dk_182 0 147 (dk_at dksX2_width_1 9 rfl rfl)
theorem dX2_width_36 : decode cX2_width 36 = .ok (.istore 6, 2) := dk_54 6 (dk_at dksX2_width_1 12 rfl rfl)
theorem dX2_width_38 : decode cX2_width 38 = .ok (.iload 6, 2) := dk_21 6 (dk_at dksX2_width_1 14 rfl rfl)
theorem dX2_width_40 : decode cX2_width 40 = .ok (.ifCond .lt 40, 3) := dk_155 0 40 (dk_at dksX2_width_1 16 rfl rfl)
theorem dX2_width_43 : decode cX2_width 43 = .ok (.aload_n 0, 1) := dk_42 (dk_at dksX2_width_1 19 rfl rfl)
theorem dX2_width_44 : decode cX2_width 44 = .ok (.iload_n 1, 1) := dk_27 (dk_at dksX2_width_1 20 rfl rfl)
theorem dX2_width_45 : decode cX2_width 45 = .ok (.iload 6, 2) := dk_21 6 (dk_at dksX2_width_1 21 rfl rfl)
theorem dX2_width_47 : decode cX2_width 47 = .ok (.invokevirtual 150, 3) := dk_182 0 150 (dk_at dksX2_width_2 0 rfl rfl)
theorem dX2_width_50 : decode cX2_width 50 = .ok (.istore 7, 2) := dk_54 7 (dk_at dksX2_width_2 3 rfl rfl)
theorem dX2_width_52 : decode cX2_width 52 = .ok (.iload 4, 2) := dk_21 4 (dk_at dksX2_width_2 5 rfl rfl)
theorem dX2_width_54 : decode cX2_width 54 = .ok (.iload 7, 2) := dk_21 7 (dk_at dksX2_width_2 7 rfl rfl)
theorem dX2_width_56 : decode cX2_width 56 = .ok (.invokestatic 127, 3) := dk_184 0 127 (dk_at dksX2_width_2 9 rfl rfl)
theorem dX2_width_59 : decode cX2_width 59 = .ok (.istore 4, 2) := dk_54 4 (dk_at dksX2_width_2 12 rfl rfl)
theorem dX2_width_61 : decode cX2_width 61 = .ok (.iload 5, 2) := dk_21 5 (dk_at dksX2_width_2 14 rfl rfl)
theorem dX2_width_63 : decode cX2_width 63 = .ok (.iload 7, 2) := dk_21 7 (dk_at dksX2_width_2 16 rfl rfl)
theorem dX2_width_65 : decode cX2_width 65 = .ok (.iadd, 1) := dk_96 (dk_at dksX2_width_2 18 rfl rfl)
theorem dX2_width_66 : decode cX2_width 66 = .ok (.istore 5, 2) := dk_54 5 (dk_at dksX2_width_2 19 rfl rfl)
theorem dX2_width_68 : decode cX2_width 68 = .ok (.aload_n 0, 1) := dk_42 (dk_at dksX2_width_2 21 rfl rfl)
theorem dX2_width_69 : decode cX2_width 69 = .ok (.iload_n 1, 1) := dk_27 (dk_at dksX2_width_2 22 rfl rfl)
theorem dX2_width_70 : decode cX2_width 70 = .ok (.iload 6, 2) := dk_21 6 (dk_at dksX2_width_3 0 rfl rfl)
theorem dX2_width_72 : decode cX2_width 72 = .ok (.invokevirtual 153, 3) := dk_182 0 153 (dk_at dksX2_width_3 2 rfl rfl)
theorem dX2_width_75 : decode cX2_width 75 = .ok (.istore 6, 2) := dk_54 6 (dk_at dksX2_width_3 5 rfl rfl)
theorem dX2_width_77 : decode cX2_width 77 = .ok (.goto (-39), 3) := dk_167 255 217 (dk_at dksX2_width_3 7 rfl rfl)
theorem dX2_width_80 : decode cX2_width 80 = .ok (.iload_n 3, 1) := dk_29 (dk_at dksX2_width_3 10 rfl rfl)
theorem dX2_width_81 : decode cX2_width 81 = .ok (.bipush 6, 2) := dk_16 6 (dk_at dksX2_width_3 11 rfl rfl)
theorem dX2_width_83 : decode cX2_width 83 = .ok (.if_icmp .ne 8, 3) := dk_160 0 8 (dk_at dksX2_width_3 13 rfl rfl)
theorem dX2_width_86 : decode cX2_width 86 = .ok (.iload 5, 2) := dk_21 5 (dk_at dksX2_width_3 16 rfl rfl)
theorem dX2_width_88 : decode cX2_width 88 = .ok (.goto 5, 3) := dk_167 0 5 (dk_at dksX2_width_3 18 rfl rfl)
theorem dX2_width_91 : decode cX2_width 91 = .ok (.iload 4, 2) := dk_21 4 (dk_at dksX2_width_3 21 rfl rfl)
theorem dX2_width_93 : decode cX2_width 93 = .ok (.ireturn, 1) := dk_172 (dk_at dksX2_width_3 23 rfl rfl)
theorem hd_X2_child : (yX2_child.cls ≠ "java/lang/invoke/MethodHandle" ∧ yX2_child.cls ≠ "java/lang/invoke/VarHandle" ∧ (parseMethodDescriptor yX2_child.desc).map (fun d => d.parameters.length) = some 2) := ⟨by decide +kernel, by decide +kernel, by decide +kernel⟩
theorem hd_X2_width : (yX2_width.cls ≠ "java/lang/invoke/MethodHandle" ∧ yX2_width.cls ≠ "java/lang/invoke/VarHandle" ∧ (parseMethodDescriptor yX2_width.desc).map (fun d => d.parameters.length) = some 2) := ⟨by decide +kernel, by decide +kernel, by decide +kernel⟩
theorem hd_X2_next : (yX2_next.cls ≠ "java/lang/invoke/MethodHandle" ∧ yX2_next.cls ≠ "java/lang/invoke/VarHandle" ∧ (parseMethodDescriptor yX2_next.desc).map (fun d => d.parameters.length) = some 2) := ⟨by decide +kernel, by decide +kernel, by decide +kernel⟩
def t_X2_width_s (rec : Int32 → Int32 → TS → Option (Int32 × TS)) (p1 : Int32) (p2 : Int32) (w0 : TS) : Option (Int32 × TS) := gB2 (t_X2_kind p1 p2 w0) fun x2 w1 => gBd (fun (x5 : Int32) (x6 : Int32) (x7 : Int32) (w4 : TS) => gB2 (t_X2_child x5 x6 w4) fun x9 w8 => gL5 (fun k16 (x11 : Int32) (x12 : Int32) (x13 : Int32) (x14 : Int32) (x15 : Int32) (w10 : TS) => if x15 < 0 then if x12 = (nI 6) then some (x14, w10) else some (x13, w10) else gB2 (rec x11 x15 w10) fun x20 w19 => gB2 (t_J6_max x13 x20 w19) fun x22 w21 => gBd (x14 + x20) fun x23 => gB2 (t_X2_next x11 x15 w21) fun x25 w24 => k16 x11 x12 x22 x23 x25 w24) 20000 x5 x7 (nI 0) (nI 0) x9 w8) fun k3 => if x2 = 0 then k3 p1 p2 x2 w1 else if x2 = (nI 5) then k3 p1 p2 x2 w1 else if x2 = (nI 6) then k3 p1 p2 x2 w1 else some ((nI 1), w1)
set_option maxHeartbeats 4000000 in
set_option maxRecDepth 100000 in
theorem kt_X2_width_s {D : va_G} {dA : Nat → ClassId} {A : Nat → Prop} {K : Nat → Nat} {l : Launch} {wb : gw} {ad : Nat → Nat} (hinj : tInj ad) {h : Nat} {rec : Int32 → Int32 → TS → Option (Int32 × TS)} {B : Nat} (hrec : ∀ {h : Nat}, B ≤ h → ∀ {p1 : Int32} {p2 : Int32} {w0 ww : TS} {rr : Int32}, rec p1 p2 w0 = some (rr, ww) → gMet D dA A K l yX2_width (ws_ yX2_width cX2_width 8 (some .int)) h [(ga (some (ad 0))), (gi p1), (gi p2)] (some (gi rr)) (twOf wb ad w0) (twOf wb ad ww)) (hb : 2 ≤ B) (hh : B + 1 ≤ h) {p1 : Int32} {p2 : Int32} {w0 ww : TS} {rr : Int32} (hf : t_X2_width_s rec p1 p2 w0 = some (rr, ww)) : gMet D dA A K l yX2_width (ws_ yX2_width cX2_width 8 (some .int)) h [(ga (some (ad 0))), (gi p1), (gi p2)] (some (gi rr)) (twOf wb ad w0) (twOf wb ad ww) := by
  refine j_start (own := RX2) (by decide +kernel) rfl (Nat.le_of_ble_eq_true rfl) ?_
  intro p e R s m args below meth c C hr hin hw
  unfold t_X2_width_s at hf
  show gJ D dA A K p l e R s m args below meth c (gEnd D dA A K below args s (twOf wb ad w0) (some (gi rr)) (twOf wb ad ww)) 8 0 [(0, (ga (some (ad 0)))), (1, (gi p1)), (2, (gi p2))] [] (twOf wb ad w0)
  refine j_aload_n C dX2_width_0 rfl ?_
  refine j_iload_n C dX2_width_1 rfl ?_
  refine j_iload_n C dX2_width_2 rfl ?_
  replace hf := gB2_e hf
  obtain ⟨x2, w1, ew1, hf⟩ := hf
  refine j_callV (As := [(gi p1), (gi p2)]) (rest := []) (v := (some (gi x2))) C (by omega) (kt_X2_kind hinj (by omega) ew1) (tw_cls hinj) rfl q1763 q1765 qs53 q93 q1766 ⟨rfl, hd_X2_kind⟩ (by decide) rfl (Nat.le_of_ble_eq_true rfl) dX2_width_3 ?_
  refine j_istore_n (lv' := [(3, (gi x2)), (0, (ga (some (ad 0)))), (1, (gi p1)), (2, (gi p2))]) C dX2_width_6 (by decide) rfl ?_
  refine j_iload_n C dX2_width_7 rfl ?_
  replace hf := gBd_x hf
  obtain ⟨k3, ek3, hf⟩ := hf
  have jk3 : ∀ (x5 : Int32) (x6 : Int32) (x7 : Int32) (w4 : TS), k3 x5 x6 x7 w4 = some (rr, ww) → gJ D dA A K p l e R s m args below meth c (gEnd D dA A K below args s (twOf wb ad w0) (some (gi rr)) (twOf wb ad ww)) 8 24 [(0, (ga (some (ad 0)))), (1, (gi x5)), (2, (gi x6)), (3, (gi x7))] [] (twOf wb ad w4) := by
    intro x5 x6 x7 w4 hf
    rw [ek3] at hf
    dsimp only at hf
    refine j_iconst (v := (nI 0)) C dX2_width_24 (by decide) ?_
    refine j_istore (lv' := [(4, (gi (nI 0))), (0, (ga (some (ad 0)))), (1, (gi x5)), (2, (gi x6)), (3, (gi x7))]) C dX2_width_25 (by decide) rfl ?_
    refine j_iconst (v := (nI 0)) C dX2_width_27 (by decide) ?_
    refine j_istore (lv' := [(5, (gi (nI 0))), (4, (gi (nI 0))), (0, (ga (some (ad 0)))), (1, (gi x5)), (2, (gi x6)), (3, (gi x7))]) C dX2_width_28 (by decide) rfl ?_
    refine j_aload_n C dX2_width_30 rfl ?_
    refine j_iload_n C dX2_width_31 rfl ?_
    refine j_iload_n C dX2_width_32 rfl ?_
    replace hf := gB2_e hf
    obtain ⟨x9, w8, ew8, hf⟩ := hf
    refine j_callV (As := [(gi x5), (gi x6)]) (rest := []) (v := (some (gi x9))) C (by omega) (kt_X2_child hinj (by omega) ew8) (tw_cls hinj) rfl q1771 q1773 qs55 q93 q1774 ⟨rfl, hd_X2_child⟩ (by decide) rfl (Nat.le_of_ble_eq_true rfl) dX2_width_33 ?_
    refine j_istore (lv' := [(6, (gi x9)), (5, (gi (nI 0))), (4, (gi (nI 0))), (0, (ga (some (ad 0)))), (1, (gi x5)), (2, (gi x6)), (3, (gi x7))]) C dX2_width_36 (by decide) rfl ?_
    refine j_sub (lv' := [(0, (ga (some (ad 0)))), (1, (gi x5)), (3, (gi x7)), (4, (gi (nI 0))), (5, (gi (nI 0))), (6, (gi x9))]) (gL_cons rfl (gL_cons rfl (gL_cons rfl (gL_cons rfl (gL_cons rfl (gL_cons rfl (gL_nil))))))) ?_
    refine gL5_e (fun (x11 : Int32) (x12 : Int32) (x13 : Int32) (x14 : Int32) (x15 : Int32) (w10 : TS) => gJ D dA A K p l e R s m args below meth c (gEnd D dA A K below args s (twOf wb ad w0) (some (gi rr)) (twOf wb ad ww)) 8 38 [(0, (ga (some (ad 0)))), (1, (gi x11)), (3, (gi x12)), (4, (gi x13)), (5, (gi x14)), (6, (gi x15))] [] (twOf wb ad w10)) ?_ _ _ _ _ _ _ _ hf
    intro k16 jk16 x11 x12 x13 x14 x15 w10 hf
    refine j_iload C dX2_width_38 rfl ?_
    refine j_if_lt (tgt := 80) C dX2_width_40 (by decide) (fun c17 => ?_) (fun c17 => ?_)
    · replace hf := gIf_t hf c17
      refine j_iload_n C dX2_width_80 rfl ?_
      refine j_bipush (v := (nI 6)) C dX2_width_81 (by decide) ?_
      refine j_icmp_ne (tgt := 91) C dX2_width_83 (by decide) (fun c18 => ?_) (fun c18 => ?_)
      · replace hf := gIf_f hf c18
        refine j_iload C dX2_width_91 rfl ?_
        obtain ⟨rfl, rfl⟩ := gSome hf
        exact j_iret C hr hw dX2_width_93
      · replace hf := gIf_t hf c18
        refine j_iload C dX2_width_86 rfl ?_
        refine j_goto (tgt := 93) C dX2_width_88 (by decide) ?_
        obtain ⟨rfl, rfl⟩ := gSome hf
        exact j_iret C hr hw dX2_width_93
    · replace hf := gIf_f hf c17
      refine j_aload_n C dX2_width_43 rfl ?_
      refine j_iload_n C dX2_width_44 rfl ?_
      refine j_iload C dX2_width_45 rfl ?_
      replace hf := gB2_e hf
      obtain ⟨x20, w19, ew19, hf⟩ := hf
      refine j_callV (As := [(gi x11), (gi x15)]) (rest := []) (v := (some (gi x20))) C (by omega) (hrec (by omega) ew19) (tw_cls hinj) rfl q1767 q1769 qs54 q93 q1770 ⟨rfl, hd_X2_width⟩ (by decide) rfl (Nat.le_of_ble_eq_true rfl) dX2_width_47 ?_
      refine j_istore (lv' := [(7, (gi x20)), (0, (ga (some (ad 0)))), (1, (gi x11)), (3, (gi x12)), (4, (gi x13)), (5, (gi x14)), (6, (gi x15))]) C dX2_width_50 (by decide) rfl ?_
      refine j_iload C dX2_width_52 rfl ?_
      refine j_iload C dX2_width_54 rfl ?_
      replace hf := gB2_e hf
      obtain ⟨x22, w21, ew21, hf⟩ := hf
      refine j_callS (As := [(gi x13), (gi x20)]) (rest := []) (v := (some (gi x22))) C (by omega) (kt_J6_max hinj (by omega) ew21) q1746 q501 q111 q502 hd_J6_max (by decide) rfl (Nat.le_of_ble_eq_true rfl) dX2_width_56 ?_
      refine j_istore (lv' := [(4, (gi x22)), (7, (gi x20)), (0, (ga (some (ad 0)))), (1, (gi x11)), (3, (gi x12)), (5, (gi x14)), (6, (gi x15))]) C dX2_width_59 (by decide) rfl ?_
      refine j_iload C dX2_width_61 rfl ?_
      refine j_iload C dX2_width_63 rfl ?_
      refine j_iadd C dX2_width_65 ?_
      replace hf := gBd_x hf
      obtain ⟨x23, ex23, hf⟩ := hf
      refine j_nm ex23 ?_
      refine j_istore (lv' := [(5, (gi x23)), (4, (gi x22)), (7, (gi x20)), (0, (ga (some (ad 0)))), (1, (gi x11)), (3, (gi x12)), (6, (gi x15))]) C dX2_width_66 (by decide) rfl ?_
      refine j_aload_n C dX2_width_68 rfl ?_
      refine j_iload_n C dX2_width_69 rfl ?_
      refine j_iload C dX2_width_70 rfl ?_
      replace hf := gB2_e hf
      obtain ⟨x25, w24, ew24, hf⟩ := hf
      refine j_callV (As := [(gi x11), (gi x15)]) (rest := []) (v := (some (gi x25))) C (by omega) (kt_X2_next hinj (by omega) ew24) (tw_cls hinj) rfl q1775 q1777 qs56 q93 q1778 ⟨rfl, hd_X2_next⟩ (by decide) rfl (Nat.le_of_ble_eq_true rfl) dX2_width_72 ?_
      refine j_istore (lv' := [(6, (gi x25)), (5, (gi x23)), (4, (gi x22)), (7, (gi x20)), (0, (ga (some (ad 0)))), (1, (gi x11)), (3, (gi x12))]) C dX2_width_75 (by decide) rfl ?_
      refine j_goto (tgt := 38) C dX2_width_77 (by decide) ?_
      refine j_sub (lv' := [(0, (ga (some (ad 0)))), (1, (gi x11)), (3, (gi x12)), (4, (gi x22)), (5, (gi x23)), (6, (gi x25))]) (gL_cons rfl (gL_cons rfl (gL_cons rfl (gL_cons rfl (gL_cons rfl (gL_cons rfl (gL_nil))))))) ?_
      exact jk16 _ _ _ _ _ _ hf
  clear ek3
  refine j_if_eq (tgt := 24) C dX2_width_8 (by decide) (fun c26 => ?_) (fun c26 => ?_)
  · replace hf := gIf_t hf c26
    refine j_sub (lv' := [(0, (ga (some (ad 0)))), (1, (gi p1)), (2, (gi p2)), (3, (gi x2))]) (gL_cons rfl (gL_cons rfl (gL_cons rfl (gL_cons rfl (gL_nil))))) ?_
    exact jk3 _ _ _ _ hf
  · replace hf := gIf_f hf c26
    refine j_iload_n C dX2_width_11 rfl ?_
    refine j_iconst (v := (nI 5)) C dX2_width_12 (by decide) ?_
    refine j_icmp_eq (tgt := 24) C dX2_width_13 (by decide) (fun c27 => ?_) (fun c27 => ?_)
    · replace hf := gIf_t hf c27
      refine j_sub (lv' := [(0, (ga (some (ad 0)))), (1, (gi p1)), (2, (gi p2)), (3, (gi x2))]) (gL_cons rfl (gL_cons rfl (gL_cons rfl (gL_cons rfl (gL_nil))))) ?_
      exact jk3 _ _ _ _ hf
    · replace hf := gIf_f hf c27
      refine j_iload_n C dX2_width_16 rfl ?_
      refine j_bipush (v := (nI 6)) C dX2_width_17 (by decide) ?_
      refine j_icmp_eq (tgt := 24) C dX2_width_19 (by decide) (fun c28 => ?_) (fun c28 => ?_)
      · replace hf := gIf_t hf c28
        refine j_sub (lv' := [(0, (ga (some (ad 0)))), (1, (gi p1)), (2, (gi p2)), (3, (gi x2))]) (gL_cons rfl (gL_cons rfl (gL_cons rfl (gL_cons rfl (gL_nil))))) ?_
        exact jk3 _ _ _ _ hf
      · replace hf := gIf_f hf c28
        refine j_iconst (v := (nI 1)) C dX2_width_22 (by decide) ?_
        obtain ⟨rfl, rfl⟩ := gSome hf
        exact j_iret C hr hw dX2_width_23
def t_X2_width : Nat → Int32 → Int32 → TS → Option (Int32 × TS)
  | 0 => fun _ _ _ => none
  | d + 1 => t_X2_width_s (t_X2_width d)
theorem kt_X2_width {D : va_G} {dA : Nat → ClassId} {A : Nat → Prop} {K : Nat → Nat} {l : Launch} {wb : gw} {ad : Nat → Nat} (hinj : tInj ad) : ∀ (d : Nat) {h : Nat}, 2 + 1 * d ≤ h → ∀ {p1 : Int32} {p2 : Int32} {w0 ww : TS} {rr : Int32}, t_X2_width d p1 p2 w0 = some (rr, ww) → gMet D dA A K l yX2_width (ws_ yX2_width cX2_width 8 (some .int)) h [(ga (some (ad 0))), (gi p1), (gi p2)] (some (gi rr)) (twOf wb ad w0) (twOf wb ad ww) := by
  intro d
  induction d with
  | zero => intro h hh p1 p2 w0 ww rr hf; cases hf
  | succ d ih =>
    intro h hh p1 p2 w0 ww rr hf
    exact kt_X2_width_s hinj (rec := t_X2_width d) (B := 2 + 1 * d) (fun hh => ih hh) (by omega) (by omega) hf
def dkwX2_version_6 : List UInt8 := [21, 5, 3, 182, 0, 150, 172]
abbrev dktX2_version_6 : List UInt8 := dkwX2_version_6 ++ []
def dkwX2_version_5 : List UInt8 := [167, 0, 29, 29, 6, 160, 0, 17, 42, 180, 0, 16, 7, 21, 5, 104, 6, 96, 46, 167, 0, 10, 42]
abbrev dktX2_version_5 : List UInt8 := dkwX2_version_5 ++ dktX2_version_6
def dkwX2_version_4 : List UInt8 := [21, 5, 182, 0, 156, 167, 0, 48, 29, 5, 160, 0, 17, 42, 180, 0, 16, 7, 21, 5, 104, 5, 96, 46]
abbrev dktX2_version_4 : List UInt8 := dkwX2_version_4 ++ dktX2_version_5
def dkwX2_version_3 : List UInt8 := [154, 0, 17, 42, 180, 0, 16, 7, 21, 5, 104, 4, 96, 46, 167, 0, 62, 29, 4, 160, 0, 12, 42]
abbrev dktX2_version_3 : List UInt8 := dkwX2_version_3 ++ dktX2_version_4
def dkwX2_version_2 : List UInt8 := [16, 17, 27, 96, 46, 4, 100, 184, 0, 38, 154, 0, 5, 2, 172, 7, 27, 104, 21, 4, 96, 54, 5, 29]
abbrev dktX2_version_2 : List UInt8 := dkwX2_version_2 ++ dktX2_version_3
def dkwX2_version_1 : List UInt8 := [180, 0, 22, 16, 17, 27, 96, 46, 4, 100, 167, 0, 4, 28, 54, 4, 21, 4, 3, 42, 180, 0, 22]
abbrev dktX2_version_1 : List UInt8 := dkwX2_version_1 ++ dktX2_version_2
def dkwX2_version_0 : List UInt8 := [27, 184, 0, 138, 153, 0, 12, 29, 3, 7, 184, 0, 38, 154, 0, 5, 2, 172, 28, 2, 160, 0, 17, 42]
abbrev dktX2_version_0 : List UInt8 := dkwX2_version_0 ++ dktX2_version_1
theorem dksX2_version_0 : cX2_version.data.toList.drop 0 = dktX2_version_0 := by decide +kernel
theorem dksX2_version_1 : cX2_version.data.toList.drop 24 = dktX2_version_1 := dk_seg dksX2_version_0 24 rfl rfl
theorem dksX2_version_2 : cX2_version.data.toList.drop 47 = dktX2_version_2 := dk_seg dksX2_version_1 23 rfl rfl
theorem dksX2_version_3 : cX2_version.data.toList.drop 71 = dktX2_version_3 := dk_seg dksX2_version_2 24 rfl rfl
theorem dksX2_version_4 : cX2_version.data.toList.drop 94 = dktX2_version_4 := dk_seg dksX2_version_3 23 rfl rfl
theorem dksX2_version_5 : cX2_version.data.toList.drop 118 = dktX2_version_5 := dk_seg dksX2_version_4 24 rfl rfl
theorem dksX2_version_6 : cX2_version.data.toList.drop 141 = dktX2_version_6 := dk_seg dksX2_version_5 23 rfl rfl
theorem dX2_version_0 : decode cX2_version 0 = .ok (.iload_n 1, 1) := dk_27 (dk_at dksX2_version_0 0 rfl rfl)
theorem dX2_version_1 : decode cX2_version 1 = .ok (.invokestatic 138, 3) := dk_184 0 138 (dk_at dksX2_version_0 1 rfl rfl)
theorem dX2_version_4 : decode cX2_version 4 = .ok (.ifCond .eq 12, 3) := dk_153 0 12 (dk_at dksX2_version_0 4 rfl rfl)
theorem dX2_version_7 : decode cX2_version 7 = .ok (.iload_n 3, 1) := dk_29 (dk_at dksX2_version_0 7 rfl rfl)
theorem dX2_version_8 : decode cX2_version 8 = .ok (.iconst 0, 1) := dk_3 (dk_at dksX2_version_0 8 rfl rfl)
theorem dX2_version_9 : decode cX2_version 9 = .ok (.iconst 4, 1) := dk_7 (dk_at dksX2_version_0 9 rfl rfl)
theorem dX2_version_10 : decode cX2_version 10 = .ok (.invokestatic 38, 3) := dk_184 0 38 (dk_at dksX2_version_0 10 rfl rfl)
theorem dX2_version_13 : decode cX2_version 13 = .ok (.ifCond .ne 5, 3) := dk_154 0 5 (dk_at dksX2_version_0 13 rfl rfl)
theorem dX2_version_16 : decode cX2_version 16 = .ok (.iconst (-1), 1) := dk_2 (dk_at dksX2_version_0 16 rfl rfl)
theorem dX2_version_17 : decode cX2_version 17 = .ok (.ireturn, 1) := dk_172 (dk_at dksX2_version_0 17 rfl rfl)
theorem dX2_version_18 : decode cX2_version 18 = .ok (.iload_n 2, 1) := dk_28 (dk_at dksX2_version_0 18 rfl rfl)
theorem dX2_version_19 : decode cX2_version 19 = .ok (.iconst (-1), 1) := dk_2 (dk_at dksX2_version_0 19 rfl rfl)
theorem dX2_version_20 : decode cX2_version 20 = .ok (.if_icmp .ne 17, 3) := dk_160 0 17 (dk_at dksX2_version_0 20 rfl rfl)
theorem dX2_version_23 : decode cX2_version 23 = .ok (.aload_n 0, 1) := dk_42 (dk_at dksX2_version_0 23 rfl rfl)
theorem dX2_version_24 : decode cX2_version 24 = .ok (.getfield 22, 3) := dk_180 0 22 (dk_at dksX2_version_1 0 rfl rfl)
theorem dX2_version_27 : decode cX2_version 27 = .ok (.bipush 17, 2) := dk_16 17 (dk_at dksX2_version_1 3 rfl rfl)
theorem dX2_version_29 : decode cX2_version 29 = .ok (.iload_n 1, 1) := dk_27 (dk_at dksX2_version_1 5 rfl rfl)
theorem dX2_version_30 : decode cX2_version 30 = .ok (.iadd, 1) := dk_96 (dk_at dksX2_version_1 6 rfl rfl)
theorem dX2_version_31 : decode cX2_version 31 = .ok (.iaload, 1) := dk_46 (dk_at dksX2_version_1 7 rfl rfl)
theorem dX2_version_32 : decode cX2_version 32 = .ok (.iconst 1, 1) := dk_4 (dk_at dksX2_version_1 8 rfl rfl)
theorem dX2_version_33 : decode cX2_version 33 = .ok (.isub, 1) := dk_100 (dk_at dksX2_version_1 9 rfl rfl)
theorem dX2_version_34 : decode cX2_version 34 = .ok (.goto 4, 3) := dk_167 0 4 (dk_at dksX2_version_1 10 rfl rfl)
theorem dX2_version_37 : decode cX2_version 37 = .ok (.iload_n 2, 1) := dk_28 (dk_at dksX2_version_1 13 rfl rfl)
theorem dX2_version_38 : decode cX2_version 38 = .ok (.istore 4, 2) := dk_54 4 (dk_at dksX2_version_1 14 rfl rfl)
theorem dX2_version_40 : decode cX2_version 40 = .ok (.iload 4, 2) := dk_21 4 (dk_at dksX2_version_1 16 rfl rfl)
theorem dX2_version_42 : decode cX2_version 42 = .ok (.iconst 0, 1) := dk_3 (dk_at dksX2_version_1 18 rfl rfl)
theorem dX2_version_43 : decode cX2_version 43 = .ok (.aload_n 0, 1) := dk_42 (dk_at dksX2_version_1 19 rfl rfl)
theorem dX2_version_44 : decode cX2_version 44 = .ok (.getfield 22, 3) := dk_180 0 22 (dk_at dksX2_version_1 20 rfl rfl)
theorem dX2_version_47 : decode cX2_version 47 = .ok (.bipush 17, 2) := dk_16 17 (dk_at dksX2_version_2 0 rfl rfl)
theorem dX2_version_49 : decode cX2_version 49 = .ok (.iload_n 1, 1) := dk_27 (dk_at dksX2_version_2 2 rfl rfl)
theorem dX2_version_50 : decode cX2_version 50 = .ok (.iadd, 1) := dk_96 (dk_at dksX2_version_2 3 rfl rfl)
theorem dX2_version_51 : decode cX2_version 51 = .ok (.iaload, 1) := dk_46 (dk_at dksX2_version_2 4 rfl rfl)
theorem dX2_version_52 : decode cX2_version 52 = .ok (.iconst 1, 1) := dk_4 (dk_at dksX2_version_2 5 rfl rfl)
theorem dX2_version_53 : decode cX2_version 53 = .ok (.isub, 1) := dk_100 (dk_at dksX2_version_2 6 rfl rfl)
theorem dX2_version_54 : decode cX2_version 54 = .ok (.invokestatic 38, 3) := dk_184 0 38 (dk_at dksX2_version_2 7 rfl rfl)
theorem dX2_version_57 : decode cX2_version 57 = .ok (.ifCond .ne 5, 3) := dk_154 0 5 (dk_at dksX2_version_2 10 rfl rfl)
theorem dX2_version_60 : decode cX2_version 60 = .ok (.iconst (-1), 1) := dk_2 (dk_at dksX2_version_2 13 rfl rfl)
theorem dX2_version_61 : decode cX2_version 61 = .ok (.ireturn, 1) := dk_172 (dk_at dksX2_version_2 14 rfl rfl)
theorem dX2_version_62 : decode cX2_version 62 = .ok (.iconst 4, 1) := dk_7 (dk_at dksX2_version_2 15 rfl rfl)
theorem dX2_version_63 : decode cX2_version 63 = .ok (.iload_n 1, 1) := dk_27 (dk_at dksX2_version_2 16 rfl rfl)
theorem dX2_version_64 : decode cX2_version 64 = .ok (.imul, 1) := dk_104 (dk_at dksX2_version_2 17 rfl rfl)
theorem dX2_version_65 : decode cX2_version 65 = .ok (.iload 4, 2) := dk_21 4 (dk_at dksX2_version_2 18 rfl rfl)
theorem dX2_version_67 : decode cX2_version 67 = .ok (.iadd, 1) := dk_96 (dk_at dksX2_version_2 20 rfl rfl)
theorem dX2_version_68 : decode cX2_version 68 = .ok (.istore 5, 2) := dk_54 5 (dk_at dksX2_version_2 21 rfl rfl)
theorem dX2_version_70 : decode cX2_version 70 = .ok (.iload_n 3, 1) := dk_29 (dk_at dksX2_version_2 23 rfl rfl)
theorem dX2_version_71 : decode cX2_version 71 = .ok (.ifCond .ne 17, 3) := dk_154 0 17 (dk_at dksX2_version_3 0 rfl rfl)
theorem dX2_version_74 : decode cX2_version 74 = .ok (.aload_n 0, 1) := dk_42 (dk_at dksX2_version_3 3 rfl rfl)
theorem dX2_version_75 : decode cX2_version 75 = .ok (.getfield 16, 3) := dk_180 0 16 (dk_at dksX2_version_3 4 rfl rfl)
theorem dX2_version_78 : decode cX2_version 78 = .ok (.iconst 4, 1) := dk_7 (dk_at dksX2_version_3 7 rfl rfl)
theorem dX2_version_79 : decode cX2_version 79 = .ok (.iload 5, 2) := dk_21 5 (dk_at dksX2_version_3 8 rfl rfl)
theorem dX2_version_81 : decode cX2_version 81 = .ok (.imul, 1) := dk_104 (dk_at dksX2_version_3 10 rfl rfl)
theorem dX2_version_82 : decode cX2_version 82 = .ok (.iconst 1, 1) := dk_4 (dk_at dksX2_version_3 11 rfl rfl)
theorem dX2_version_83 : decode cX2_version 83 = .ok (.iadd, 1) := dk_96 (dk_at dksX2_version_3 12 rfl rfl)
theorem dX2_version_84 : decode cX2_version 84 = .ok (.iaload, 1) := dk_46 (dk_at dksX2_version_3 13 rfl rfl)
theorem dX2_version_85 : decode cX2_version 85 = .ok (.goto 62, 3) := dk_167 0 62 (dk_at dksX2_version_3 14 rfl rfl)
theorem dX2_version_88 : decode cX2_version 88 = .ok (.iload_n 3, 1) := dk_29 (dk_at dksX2_version_3 17 rfl rfl)
theorem dX2_version_89 : decode cX2_version 89 = .ok (.iconst 1, 1) := dk_4 (dk_at dksX2_version_3 18 rfl rfl)
theorem dX2_version_90 : decode cX2_version 90 = .ok (.if_icmp .ne 12, 3) := dk_160 0 12 (dk_at dksX2_version_3 19 rfl rfl)
theorem dX2_version_93 : decode cX2_version 93 = .ok (.aload_n 0, 1) := dk_42 (dk_at dksX2_version_3 22 rfl rfl)
theorem dX2_version_94 : decode cX2_version 94 = .ok (.iload 5, 2) := dk_21 5 (dk_at dksX2_version_4 0 rfl rfl)
theorem dX2_version_96 : decode cX2_version 96 = .ok (.invokevirtual 156, 3) := dk_182 0 156 (dk_at dksX2_version_4 2 rfl rfl)
theorem dX2_version_99 : decode cX2_version 99 = .ok (.goto 48, 3) := dk_167 0 48 (dk_at dksX2_version_4 5 rfl rfl)
theorem dX2_version_102 : decode cX2_version 102 = .ok (.iload_n 3, 1) := dk_29 (dk_at dksX2_version_4 8 rfl rfl)
theorem dX2_version_103 : decode cX2_version 103 = .ok (.iconst 2, 1) := dk_5 (dk_at dksX2_version_4 9 rfl rfl)
theorem dX2_version_104 : decode cX2_version 104 = .ok (.if_icmp .ne 17, 3) := dk_160 0 17 (dk_at dksX2_version_4 10 rfl rfl)
theorem dX2_version_107 : decode cX2_version 107 = .ok (.aload_n 0, 1) := dk_42 (dk_at dksX2_version_4 13 rfl rfl)
theorem dX2_version_108 : decode cX2_version 108 = .ok (.getfield 16, 3) := dk_180 0 16 (dk_at dksX2_version_4 14 rfl rfl)
theorem dX2_version_111 : decode cX2_version 111 = .ok (.iconst 4, 1) := dk_7 (dk_at dksX2_version_4 17 rfl rfl)
theorem dX2_version_112 : decode cX2_version 112 = .ok (.iload 5, 2) := dk_21 5 (dk_at dksX2_version_4 18 rfl rfl)
theorem dX2_version_114 : decode cX2_version 114 = .ok (.imul, 1) := dk_104 (dk_at dksX2_version_4 20 rfl rfl)
theorem dX2_version_115 : decode cX2_version 115 = .ok (.iconst 2, 1) := dk_5 (dk_at dksX2_version_4 21 rfl rfl)
theorem dX2_version_116 : decode cX2_version 116 = .ok (.iadd, 1) := dk_96 (dk_at dksX2_version_4 22 rfl rfl)
theorem dX2_version_117 : decode cX2_version 117 = .ok (.iaload, 1) := dk_46 (dk_at dksX2_version_4 23 rfl rfl)
theorem dX2_version_118 : decode cX2_version 118 = .ok (.goto 29, 3) := dk_167 0 29 (dk_at dksX2_version_5 0 rfl rfl)
theorem dX2_version_121 : decode cX2_version 121 = .ok (.iload_n 3, 1) := dk_29 (dk_at dksX2_version_5 3 rfl rfl)
theorem dX2_version_122 : decode cX2_version 122 = .ok (.iconst 3, 1) := dk_6 (dk_at dksX2_version_5 4 rfl rfl)
theorem dX2_version_123 : decode cX2_version 123 = .ok (.if_icmp .ne 17, 3) := dk_160 0 17 (dk_at dksX2_version_5 5 rfl rfl)
theorem dX2_version_126 : decode cX2_version 126 = .ok (.aload_n 0, 1) := dk_42 (dk_at dksX2_version_5 8 rfl rfl)
theorem dX2_version_127 : decode cX2_version 127 = .ok (.getfield 16, 3) := dk_180 0 16 (dk_at dksX2_version_5 9 rfl rfl)
theorem dX2_version_130 : decode cX2_version 130 = .ok (.iconst 4, 1) := dk_7 (dk_at dksX2_version_5 12 rfl rfl)
theorem dX2_version_131 : decode cX2_version 131 = .ok (.iload 5, 2) := dk_21 5 (dk_at dksX2_version_5 13 rfl rfl)
theorem dX2_version_133 : decode cX2_version 133 = .ok (.imul, 1) := dk_104 (dk_at dksX2_version_5 15 rfl rfl)
theorem dX2_version_134 : decode cX2_version 134 = .ok (.iconst 3, 1) := dk_6 (dk_at dksX2_version_5 16 rfl rfl)
theorem dX2_version_135 : decode cX2_version 135 = .ok (.iadd, 1) := dk_96 (dk_at dksX2_version_5 17 rfl rfl)
theorem dX2_version_136 : decode cX2_version 136 = .ok (.iaload, 1) := dk_46 (dk_at dksX2_version_5 18 rfl rfl)
theorem dX2_version_137 : decode cX2_version 137 = .ok (.goto 10, 3) := dk_167 0 10 (dk_at dksX2_version_5 19 rfl rfl)
theorem dX2_version_140 : decode cX2_version 140 = .ok (.aload_n 0, 1) := dk_42 (dk_at dksX2_version_5 22 rfl rfl)
theorem dX2_version_141 : decode cX2_version 141 = .ok (.iload 5, 2) := dk_21 5 (dk_at dksX2_version_6 0 rfl rfl)
theorem dX2_version_143 : decode cX2_version 143 = .ok (.iconst 0, 1) := dk_3 (dk_at dksX2_version_6 2 rfl rfl)
theorem dX2_version_144 : decode cX2_version 144 = .ok (.invokevirtual 150, 3) := dk_182 0 150 (dk_at dksX2_version_6 3 rfl rfl)
theorem dX2_version_147 : decode cX2_version 147 = .ok (.ireturn, 1) := dk_172 (dk_at dksX2_version_6 6 rfl rfl)
theorem hd_X2_tasksIn : (yX2_tasksIn.cls ≠ "java/lang/invoke/MethodHandle" ∧ yX2_tasksIn.cls ≠ "java/lang/invoke/VarHandle" ∧ (parseMethodDescriptor yX2_tasksIn.desc).map (fun d => d.parameters.length) = some 1) := ⟨by decide +kernel, by decide +kernel, by decide +kernel⟩
def t_X2_version (p1 : Int32) (p2 : Int32) (p3 : Int32) (w0 : TS) : Option (Int32 × TS) := gB2 (t_X2_isWorkflow p1 w0) fun x2 w1 => if x2 = 0 then some ((-1), w1) else gB2 (t_X2_isIn p3 (nI 0) (nI 4) w1) fun x5 w4 => if x5 = 0 then some ((-1), w4) else gBd (fun (x9 : Int32) (x10 : Int32) (x11 : Int32) (w8 : TS) => gB1 (tLd w8 5 ((nI 17) + x9)) fun x12 => gB2 (t_X2_isIn x11 (nI 0) (x12 - (nI 1)) w8) fun x14 w13 => if x14 = 0 then some ((-1), w13) else gBd (((nI 4) * x9) + x11) fun x16 => if x10 = 0 then gB1 (tLd w13 3 (((nI 4) * x16) + (nI 1))) fun x27 => some (x27, w13) else if x10 = (nI 1) then gB2 (t_X2_tasksIn x16 w13) fun x26 w25 => some (x26, w25) else if x10 = (nI 2) then gB1 (tLd w13 3 (((nI 4) * x16) + (nI 2))) fun x24 => some (x24, w13) else if x10 = (nI 3) then gB1 (tLd w13 3 (((nI 4) * x16) + (nI 3))) fun x23 => some (x23, w13) else gB2 (t_X2_width 12 x16 (nI 0) w13) fun x22 w21 => some (x22, w21)) fun k7 => if p2 = (-1) then gB1 (tLd w4 5 ((nI 17) + p1)) fun x29 => k7 p1 p3 (x29 - (nI 1)) w4 else k7 p1 p3 p2 w4
set_option maxHeartbeats 4000000 in
set_option maxRecDepth 100000 in
theorem kt_X2_version {D : va_G} {dA : Nat → ClassId} {A : Nat → Prop} {K : Nat → Nat} {l : Launch} {wb : gw} {ad : Nat → Nat} (hinj : tInj ad) {h : Nat} (hh : 15 ≤ h) {p1 : Int32} {p2 : Int32} {p3 : Int32} {w0 ww : TS} {rr : Int32} (hf : t_X2_version p1 p2 p3 w0 = some (rr, ww)) : gMet D dA A K l yX2_version (ws_ yX2_version cX2_version 6 (some .int)) h [(ga (some (ad 0))), (gi p1), (gi p2), (gi p3)] (some (gi rr)) (twOf wb ad w0) (twOf wb ad ww) := by
  refine j_start (own := RX2) (by decide +kernel) rfl (Nat.le_of_ble_eq_true rfl) ?_
  intro p e R s m args below meth c C hr hin hw
  unfold t_X2_version at hf
  show gJ D dA A K p l e R s m args below meth c (gEnd D dA A K below args s (twOf wb ad w0) (some (gi rr)) (twOf wb ad ww)) 6 0 [(0, (ga (some (ad 0)))), (1, (gi p1)), (2, (gi p2)), (3, (gi p3))] [] (twOf wb ad w0)
  refine j_iload_n C dX2_version_0 rfl ?_
  replace hf := gB2_e hf
  obtain ⟨x2, w1, ew1, hf⟩ := hf
  refine j_callS (As := [(gi p1)]) (rest := []) (v := (some (gi x2))) C (by omega) (kt_X2_isWorkflow hinj (by omega) ew1) q1669 q1670 q93 q1671 hd_X2_isWorkflow (by decide) rfl (Nat.le_of_ble_eq_true rfl) dX2_version_1 ?_
  refine j_if_eq (tgt := 16) C dX2_version_4 (by decide) (fun c3 => ?_) (fun c3 => ?_)
  · replace hf := gIf_t hf c3
    refine j_iconst (v := (-1)) C dX2_version_16 (by decide) ?_
    obtain ⟨rfl, rfl⟩ := gSome hf
    exact j_iret C hr hw dX2_version_17
  · replace hf := gIf_f hf c3
    refine j_iload_n C dX2_version_7 rfl ?_
    refine j_iconst (v := (nI 0)) C dX2_version_8 (by decide) ?_
    refine j_iconst (v := (nI 4)) C dX2_version_9 (by decide) ?_
    replace hf := gB2_e hf
    obtain ⟨x5, w4, ew4, hf⟩ := hf
    refine j_callS (As := [(gi p3), (gi (nI 0)), (gi (nI 4))]) (rest := []) (v := (some (gi x5))) C (by omega) (kt_X2_isIn hinj (by omega) ew4) q1662 q1663 q93 q1664 hd_X2_isIn (by decide) rfl (Nat.le_of_ble_eq_true rfl) dX2_version_10 ?_
    refine j_if_ne (tgt := 18) C dX2_version_13 (by decide) (fun c6 => ?_) (fun c6 => ?_)
    · replace hf := gIf_f hf c6
      refine j_iload_n C dX2_version_18 rfl ?_
      refine j_iconst (v := (-1)) C dX2_version_19 (by decide) ?_
      replace hf := gBd_x hf
      obtain ⟨k7, ek7, hf⟩ := hf
      have jk7 : ∀ (x9 : Int32) (x10 : Int32) (x11 : Int32) (w8 : TS), k7 x9 x10 x11 w8 = some (rr, ww) → gJ D dA A K p l e R s m args below meth c (gEnd D dA A K below args s (twOf wb ad w0) (some (gi rr)) (twOf wb ad ww)) 6 38 [(0, (ga (some (ad 0)))), (1, (gi x9)), (3, (gi x10))] [(gi x11)] (twOf wb ad w8) := by
        intro x9 x10 x11 w8 hf
        rw [ek7] at hf
        dsimp only at hf
        refine j_istore (lv' := [(4, (gi x11)), (0, (ga (some (ad 0)))), (1, (gi x9)), (3, (gi x10))]) C dX2_version_38 (by decide) rfl ?_
        refine j_iload C dX2_version_40 rfl ?_
        refine j_iconst (v := (nI 0)) C dX2_version_42 (by decide) ?_
        refine j_aload_n C dX2_version_43 rfl ?_
        refine j_get (v := (ga (some (ad 5)))) C fl_X2_22_2 dX2_version_44 (tw_F hinj rfl) ?_
        refine j_bipush (v := (nI 17)) C dX2_version_47 (by decide) ?_
        refine j_iload_n C dX2_version_49 rfl ?_
        refine j_iadd C dX2_version_50 ?_
        replace hf := gB1_e hf
        obtain ⟨x12, ex12, hf⟩ := hf
        refine j_iald C (tw_ld hinj ex12) dX2_version_51 ?_
        refine j_iconst (v := (nI 1)) C dX2_version_52 (by decide) ?_
        refine j_isub C dX2_version_53 ?_
        replace hf := gB2_e hf
        obtain ⟨x14, w13, ew13, hf⟩ := hf
        refine j_callS (As := [(gi x11), (gi (nI 0)), (gi (x12 - (nI 1)))]) (rest := []) (v := (some (gi x14))) C (by omega) (kt_X2_isIn hinj (by omega) ew13) q1662 q1663 q93 q1664 hd_X2_isIn (by decide) rfl (Nat.le_of_ble_eq_true rfl) dX2_version_54 ?_
        refine j_if_ne (tgt := 62) C dX2_version_57 (by decide) (fun c15 => ?_) (fun c15 => ?_)
        · replace hf := gIf_f hf c15
          refine j_iconst (v := (nI 4)) C dX2_version_62 (by decide) ?_
          refine j_iload_n C dX2_version_63 rfl ?_
          refine j_imul C dX2_version_64 ?_
          refine j_iload C dX2_version_65 rfl ?_
          refine j_iadd C dX2_version_67 ?_
          replace hf := gBd_x hf
          obtain ⟨x16, ex16, hf⟩ := hf
          refine j_nm ex16 ?_
          refine j_istore (lv' := [(5, (gi x16)), (4, (gi x11)), (0, (ga (some (ad 0)))), (1, (gi x9)), (3, (gi x10))]) C dX2_version_68 (by decide) rfl ?_
          refine j_iload_n C dX2_version_70 rfl ?_
          refine j_if_ne (tgt := 88) C dX2_version_71 (by decide) (fun c17 => ?_) (fun c17 => ?_)
          · replace hf := gIf_f hf c17
            refine j_iload_n C dX2_version_88 rfl ?_
            refine j_iconst (v := (nI 1)) C dX2_version_89 (by decide) ?_
            refine j_icmp_ne (tgt := 102) C dX2_version_90 (by decide) (fun c18 => ?_) (fun c18 => ?_)
            · replace hf := gIf_f hf c18
              refine j_iload_n C dX2_version_102 rfl ?_
              refine j_iconst (v := (nI 2)) C dX2_version_103 (by decide) ?_
              refine j_icmp_ne (tgt := 121) C dX2_version_104 (by decide) (fun c19 => ?_) (fun c19 => ?_)
              · replace hf := gIf_f hf c19
                refine j_iload_n C dX2_version_121 rfl ?_
                refine j_iconst (v := (nI 3)) C dX2_version_122 (by decide) ?_
                refine j_icmp_ne (tgt := 140) C dX2_version_123 (by decide) (fun c20 => ?_) (fun c20 => ?_)
                · replace hf := gIf_f hf c20
                  refine j_aload_n C dX2_version_140 rfl ?_
                  refine j_iload C dX2_version_141 rfl ?_
                  refine j_iconst (v := (nI 0)) C dX2_version_143 (by decide) ?_
                  replace hf := gB2_e hf
                  obtain ⟨x22, w21, ew21, hf⟩ := hf
                  refine j_callV (As := [(gi x16), (gi (nI 0))]) (rest := []) (v := (some (gi x22))) C (by omega) (kt_X2_width hinj 12 (by omega) ew21) (tw_cls hinj) rfl q1767 q1769 qs54 q93 q1770 ⟨rfl, hd_X2_width⟩ (by decide) rfl (Nat.le_of_ble_eq_true rfl) dX2_version_144 ?_
                  obtain ⟨rfl, rfl⟩ := gSome hf
                  exact j_iret C hr hw dX2_version_147
                · replace hf := gIf_t hf c20
                  refine j_aload_n C dX2_version_126 rfl ?_
                  refine j_get (v := (ga (some (ad 3)))) C fl_X2_16_2 dX2_version_127 (tw_F hinj rfl) ?_
                  refine j_iconst (v := (nI 4)) C dX2_version_130 (by decide) ?_
                  refine j_iload C dX2_version_131 rfl ?_
                  refine j_imul C dX2_version_133 ?_
                  refine j_iconst (v := (nI 3)) C dX2_version_134 (by decide) ?_
                  refine j_iadd C dX2_version_135 ?_
                  replace hf := gB1_e hf
                  obtain ⟨x23, ex23, hf⟩ := hf
                  refine j_iald C (tw_ld hinj ex23) dX2_version_136 ?_
                  refine j_goto (tgt := 147) C dX2_version_137 (by decide) ?_
                  obtain ⟨rfl, rfl⟩ := gSome hf
                  exact j_iret C hr hw dX2_version_147
              · replace hf := gIf_t hf c19
                refine j_aload_n C dX2_version_107 rfl ?_
                refine j_get (v := (ga (some (ad 3)))) C fl_X2_16_2 dX2_version_108 (tw_F hinj rfl) ?_
                refine j_iconst (v := (nI 4)) C dX2_version_111 (by decide) ?_
                refine j_iload C dX2_version_112 rfl ?_
                refine j_imul C dX2_version_114 ?_
                refine j_iconst (v := (nI 2)) C dX2_version_115 (by decide) ?_
                refine j_iadd C dX2_version_116 ?_
                replace hf := gB1_e hf
                obtain ⟨x24, ex24, hf⟩ := hf
                refine j_iald C (tw_ld hinj ex24) dX2_version_117 ?_
                refine j_goto (tgt := 147) C dX2_version_118 (by decide) ?_
                obtain ⟨rfl, rfl⟩ := gSome hf
                exact j_iret C hr hw dX2_version_147
            · replace hf := gIf_t hf c18
              refine j_aload_n C dX2_version_93 rfl ?_
              refine j_iload C dX2_version_94 rfl ?_
              replace hf := gB2_e hf
              obtain ⟨x26, w25, ew25, hf⟩ := hf
              refine j_callV (As := [(gi x16)]) (rest := []) (v := (some (gi x26))) C (by omega) (kt_X2_tasksIn hinj (by omega) ew25) (tw_cls hinj) rfl q1759 q1761 qs52 q93 q1762 ⟨rfl, hd_X2_tasksIn⟩ (by decide) rfl (Nat.le_of_ble_eq_true rfl) dX2_version_96 ?_
              refine j_goto (tgt := 147) C dX2_version_99 (by decide) ?_
              obtain ⟨rfl, rfl⟩ := gSome hf
              exact j_iret C hr hw dX2_version_147
          · replace hf := gIf_t hf c17
            refine j_aload_n C dX2_version_74 rfl ?_
            refine j_get (v := (ga (some (ad 3)))) C fl_X2_16_2 dX2_version_75 (tw_F hinj rfl) ?_
            refine j_iconst (v := (nI 4)) C dX2_version_78 (by decide) ?_
            refine j_iload C dX2_version_79 rfl ?_
            refine j_imul C dX2_version_81 ?_
            refine j_iconst (v := (nI 1)) C dX2_version_82 (by decide) ?_
            refine j_iadd C dX2_version_83 ?_
            replace hf := gB1_e hf
            obtain ⟨x27, ex27, hf⟩ := hf
            refine j_iald C (tw_ld hinj ex27) dX2_version_84 ?_
            refine j_goto (tgt := 147) C dX2_version_85 (by decide) ?_
            obtain ⟨rfl, rfl⟩ := gSome hf
            exact j_iret C hr hw dX2_version_147
        · replace hf := gIf_t hf c15
          refine j_iconst (v := (-1)) C dX2_version_60 (by decide) ?_
          obtain ⟨rfl, rfl⟩ := gSome hf
          exact j_iret C hr hw dX2_version_61
      clear ek7
      refine j_icmp_ne (tgt := 37) C dX2_version_20 (by decide) (fun c28 => ?_) (fun c28 => ?_)
      · replace hf := gIf_f hf c28
        refine j_iload_n C dX2_version_37 rfl ?_
        refine j_sub (lv' := [(0, (ga (some (ad 0)))), (1, (gi p1)), (3, (gi p3))]) (gL_cons rfl (gL_cons rfl (gL_cons rfl (gL_nil)))) ?_
        exact jk7 _ _ _ _ hf
      · replace hf := gIf_t hf c28
        refine j_aload_n C dX2_version_23 rfl ?_
        refine j_get (v := (ga (some (ad 5)))) C fl_X2_22_2 dX2_version_24 (tw_F hinj rfl) ?_
        refine j_bipush (v := (nI 17)) C dX2_version_27 (by decide) ?_
        refine j_iload_n C dX2_version_29 rfl ?_
        refine j_iadd C dX2_version_30 ?_
        replace hf := gB1_e hf
        obtain ⟨x29, ex29, hf⟩ := hf
        refine j_iald C (tw_ld hinj ex29) dX2_version_31 ?_
        refine j_iconst (v := (nI 1)) C dX2_version_32 (by decide) ?_
        refine j_isub C dX2_version_33 ?_
        refine j_goto (tgt := 38) C dX2_version_34 (by decide) ?_
        refine j_sub (lv' := [(0, (ga (some (ad 0)))), (1, (gi p1)), (3, (gi p3))]) (gL_cons rfl (gL_cons rfl (gL_cons rfl (gL_nil)))) ?_
        exact jk7 _ _ _ _ hf
    · replace hf := gIf_t hf c6
      refine j_iconst (v := (-1)) C dX2_version_16 (by decide) ?_
      obtain ⟨rfl, rfl⟩ := gSome hf
      exact j_iret C hr hw dX2_version_17
def dkwX2_looksAtParallel_7 : List UInt8 := [27, 28, 5, 182, 0, 211, 182, 0, 174, 42, 27, 28, 5, 182, 0, 184, 172]
abbrev dktX2_looksAtParallel_7 : List UInt8 := dkwX2_looksAtParallel_7 ++ []
def dkwX2_looksAtParallel_6 : List UInt8 := [28, 16, 7, 184, 0, 169, 2, 79, 42, 27, 28, 182, 0, 217, 154, 0, 5, 8, 172, 42, 27, 16, 9, 42]
abbrev dktX2_looksAtParallel_6 : List UInt8 := dkwX2_looksAtParallel_6 ++ dktX2_looksAtParallel_7
def dkwX2_looksAtParallel_5 : List UInt8 := [172, 42, 27, 28, 182, 0, 214, 42, 180, 0, 22, 27, 28, 3, 184, 0, 169, 8, 79, 42, 180, 0, 22, 27]
abbrev dktX2_looksAtParallel_5 : List UInt8 := dkwX2_looksAtParallel_5 ++ dktX2_looksAtParallel_6
def dkwX2_looksAtParallel_4 : List UInt8 := [162, 0, 17, 42, 27, 28, 182, 0, 214, 42, 27, 28, 6, 182, 0, 184, 172, 21, 4, 29, 162, 0, 5, 4]
abbrev dktX2_looksAtParallel_4 : List UInt8 := dkwX2_looksAtParallel_4 ++ dktX2_looksAtParallel_5
def dkwX2_looksAtParallel_3 : List UInt8 := [182, 0, 171, 62, 42, 27, 28, 5, 182, 0, 211, 54, 4, 21, 4, 42, 27, 28, 4, 182, 0, 211, 96, 29]
abbrev dktX2_looksAtParallel_3 : List UInt8 := dkwX2_looksAtParallel_3 ++ dktX2_looksAtParallel_4
def dkwX2_looksAtParallel_2 : List UInt8 := [167, 0, 4, 3, 54, 4, 42, 27, 29, 16, 6, 182, 0, 171, 62, 167, 255, 216, 42, 27, 28, 4]
abbrev dktX2_looksAtParallel_2 : List UInt8 := dkwX2_looksAtParallel_2 ++ dktX2_looksAtParallel_3
def dkwX2_looksAtParallel_1 : List UInt8 := [155, 0, 42, 42, 180, 0, 22, 27, 29, 3, 184, 0, 169, 46, 4, 160, 0, 12, 42, 27, 29, 182, 0, 196]
abbrev dktX2_looksAtParallel_1 : List UInt8 := dkwX2_looksAtParallel_1 ++ dktX2_looksAtParallel_2
def dkwX2_looksAtParallel_0 : List UInt8 := [42, 180, 0, 22, 27, 28, 3, 184, 0, 169, 46, 8, 159, 0, 138, 42, 27, 28, 8, 182, 0, 171, 62, 29]
abbrev dktX2_looksAtParallel_0 : List UInt8 := dkwX2_looksAtParallel_0 ++ dktX2_looksAtParallel_1
theorem dksX2_looksAtParallel_0 : cX2_looksAtParallel.data.toList.drop 0 = dktX2_looksAtParallel_0 := by decide +kernel
theorem dksX2_looksAtParallel_1 : cX2_looksAtParallel.data.toList.drop 24 = dktX2_looksAtParallel_1 := dk_seg dksX2_looksAtParallel_0 24 rfl rfl
theorem dksX2_looksAtParallel_2 : cX2_looksAtParallel.data.toList.drop 48 = dktX2_looksAtParallel_2 := dk_seg dksX2_looksAtParallel_1 24 rfl rfl
theorem dksX2_looksAtParallel_3 : cX2_looksAtParallel.data.toList.drop 70 = dktX2_looksAtParallel_3 := dk_seg dksX2_looksAtParallel_2 22 rfl rfl
theorem dksX2_looksAtParallel_4 : cX2_looksAtParallel.data.toList.drop 94 = dktX2_looksAtParallel_4 := dk_seg dksX2_looksAtParallel_3 24 rfl rfl
theorem dksX2_looksAtParallel_5 : cX2_looksAtParallel.data.toList.drop 118 = dktX2_looksAtParallel_5 := dk_seg dksX2_looksAtParallel_4 24 rfl rfl
theorem dksX2_looksAtParallel_6 : cX2_looksAtParallel.data.toList.drop 142 = dktX2_looksAtParallel_6 := dk_seg dksX2_looksAtParallel_5 24 rfl rfl
theorem dksX2_looksAtParallel_7 : cX2_looksAtParallel.data.toList.drop 166 = dktX2_looksAtParallel_7 := dk_seg dksX2_looksAtParallel_6 24 rfl rfl
theorem dX2_looksAtParallel_0 : decode cX2_looksAtParallel 0 = .ok (.aload_n 0, 1) := dk_42 (dk_at dksX2_looksAtParallel_0 0 rfl rfl)
theorem dX2_looksAtParallel_1 : decode cX2_looksAtParallel 1 = .ok (.getfield 22, 3) := dk_180 0 22 (dk_at dksX2_looksAtParallel_0 1 rfl rfl)
theorem dX2_looksAtParallel_4 : decode cX2_looksAtParallel 4 = .ok (.iload_n 1, 1) := dk_27 (dk_at dksX2_looksAtParallel_0 4 rfl rfl)
theorem dX2_looksAtParallel_5 : decode cX2_looksAtParallel 5 = .ok (.iload_n 2, 1) := dk_28 (dk_at dksX2_looksAtParallel_0 5 rfl rfl)
theorem dX2_looksAtParallel_6 : decode cX2_looksAtParallel 6 = .ok (.iconst 0, 1) := dk_3 (dk_at dksX2_looksAtParallel_0 6 rfl rfl)
theorem dX2_looksAtParallel_7 : decode cX2_looksAtParallel 7 = .ok (.invokestatic 169, 3) := dk_184 0 169 (dk_at dksX2_looksAtParallel_0 7 rfl rfl)
theorem dX2_looksAtParallel_10 : decode cX2_looksAtParallel 10 = .ok (.iaload, 1) := dk_46 (dk_at dksX2_looksAtParallel_0 10 rfl rfl)
theorem dX2_looksAtParallel_11 : decode cX2_looksAtParallel 11 = .ok (.iconst 5, 1) := dk_8 (dk_at dksX2_looksAtParallel_0 11 rfl rfl)
theorem dX2_looksAtParallel_12 : decode cX2_looksAtParallel 12 = .ok (.if_icmp .eq 138, 3) := dk_159 0 138 (dk_at dksX2_looksAtParallel_0 12 rfl rfl)
theorem dX2_looksAtParallel_15 : decode cX2_looksAtParallel 15 = .ok (.aload_n 0, 1) := dk_42 (dk_at dksX2_looksAtParallel_0 15 rfl rfl)
theorem dX2_looksAtParallel_16 : decode cX2_looksAtParallel 16 = .ok (.iload_n 1, 1) := dk_27 (dk_at dksX2_looksAtParallel_0 16 rfl rfl)
theorem dX2_looksAtParallel_17 : decode cX2_looksAtParallel 17 = .ok (.iload_n 2, 1) := dk_28 (dk_at dksX2_looksAtParallel_0 17 rfl rfl)
theorem dX2_looksAtParallel_18 : decode cX2_looksAtParallel 18 = .ok (.iconst 5, 1) := dk_8 (dk_at dksX2_looksAtParallel_0 18 rfl rfl)
theorem dX2_looksAtParallel_19 : decode cX2_looksAtParallel 19 = .ok (.invokevirtual 171, 3) := dk_182 0 171 (dk_at dksX2_looksAtParallel_0 19 rfl rfl)
theorem dX2_looksAtParallel_22 : decode cX2_looksAtParallel 22 = .ok (.istore_n 3, 1) := dk_62 (dk_at dksX2_looksAtParallel_0 22 rfl rfl)
theorem dX2_looksAtParallel_23 : decode cX2_looksAtParallel 23 = .ok (.iload_n 3, 1) := dk_29 (dk_at dksX2_looksAtParallel_0 23 rfl rfl)
theorem dX2_looksAtParallel_24 : decode cX2_looksAtParallel 24 = .ok (.ifCond .lt 42, 3) := dk_155 0 42 (dk_at dksX2_looksAtParallel_1 0 rfl rfl)
theorem dX2_looksAtParallel_27 : decode cX2_looksAtParallel 27 = .ok (.aload_n 0, 1) := dk_42 (dk_at dksX2_looksAtParallel_1 3 rfl rfl)
theorem dX2_looksAtParallel_28 : decode cX2_looksAtParallel 28 = .ok (.getfield 22, 3) := dk_180 0 22 (dk_at dksX2_looksAtParallel_1 4 rfl rfl)
theorem dX2_looksAtParallel_31 : decode cX2_looksAtParallel 31 = .ok (.iload_n 1, 1) := dk_27 (dk_at dksX2_looksAtParallel_1 7 rfl rfl)
theorem dX2_looksAtParallel_32 : decode cX2_looksAtParallel 32 = .ok (.iload_n 3, 1) := dk_29 (dk_at dksX2_looksAtParallel_1 8 rfl rfl)
theorem dX2_looksAtParallel_33 : decode cX2_looksAtParallel 33 = .ok (.iconst 0, 1) := dk_3 (dk_at dksX2_looksAtParallel_1 9 rfl rfl)
theorem dX2_looksAtParallel_34 : decode cX2_looksAtParallel 34 = .ok (.invokestatic 169, 3) := dk_184 0 169 (dk_at dksX2_looksAtParallel_1 10 rfl rfl)
theorem dX2_looksAtParallel_37 : decode cX2_looksAtParallel 37 = .ok (.iaload, 1) := dk_46 (dk_at dksX2_looksAtParallel_1 13 rfl rfl)
theorem dX2_looksAtParallel_38 : decode cX2_looksAtParallel 38 = .ok (.iconst 1, 1) := dk_4 (dk_at dksX2_looksAtParallel_1 14 rfl rfl)
theorem dX2_looksAtParallel_39 : decode cX2_looksAtParallel 39 = .ok (.if_icmp .ne 12, 3) := dk_160 0 12 (dk_at dksX2_looksAtParallel_1 15 rfl rfl)
theorem dX2_looksAtParallel_42 : decode cX2_looksAtParallel 42 = .ok (.aload_n 0, 1) := dk_42 (dk_at dksX2_looksAtParallel_1 18 rfl rfl)
theorem dX2_looksAtParallel_43 : decode cX2_looksAtParallel 43 = .ok (.iload_n 1, 1) := dk_27 (dk_at dksX2_looksAtParallel_1 19 rfl rfl)
theorem dX2_looksAtParallel_44 : decode cX2_looksAtParallel 44 = .ok (.iload_n 3, 1) := dk_29 (dk_at dksX2_looksAtParallel_1 20 rfl rfl)
theorem dX2_looksAtParallel_45 : decode cX2_looksAtParallel 45 = .ok (.invokevirtual 196, 3) := dk_182 0 196 (dk_at dksX2_looksAtParallel_1 21 rfl rfl)
theorem dX2_looksAtParallel_48 : decode cX2_looksAtParallel 48 = .ok (.goto 4, 3) := dk_167 0 4 (dk_at dksX2_looksAtParallel_2 0 rfl rfl)
theorem dX2_looksAtParallel_51 : decode cX2_looksAtParallel 51 = .ok (.iconst 0, 1) := dk_3 (dk_at dksX2_looksAtParallel_2 3 rfl rfl)
theorem dX2_looksAtParallel_52 : decode cX2_looksAtParallel 52 = .ok (.istore 4, 2) := dk_54 4 (dk_at dksX2_looksAtParallel_2 4 rfl rfl)
theorem dX2_looksAtParallel_54 : decode cX2_looksAtParallel 54 = .ok (.aload_n 0, 1) := dk_42 (dk_at dksX2_looksAtParallel_2 6 rfl rfl)
theorem dX2_looksAtParallel_55 : decode cX2_looksAtParallel 55 = .ok (.iload_n 1, 1) := dk_27 (dk_at dksX2_looksAtParallel_2 7 rfl rfl)
theorem dX2_looksAtParallel_56 : decode cX2_looksAtParallel 56 = .ok (.iload_n 3, 1) := dk_29 (dk_at dksX2_looksAtParallel_2 8 rfl rfl)
theorem dX2_looksAtParallel_57 : decode cX2_looksAtParallel 57 = .ok (.bipush 6, 2) := dk_16 6 (dk_at dksX2_looksAtParallel_2 9 rfl rfl)
theorem dX2_looksAtParallel_59 : decode cX2_looksAtParallel 59 = .ok (.invokevirtual 171, 3) := dk_182 0 171 (dk_at dksX2_looksAtParallel_2 11 rfl rfl)
theorem dX2_looksAtParallel_62 : decode cX2_looksAtParallel 62 = .ok (.istore_n 3, 1) := dk_62 (dk_at dksX2_looksAtParallel_2 14 rfl rfl)
theorem dX2_looksAtParallel_63 : decode cX2_looksAtParallel 63 = .ok (.goto (-40), 3) := dk_167 255 216 (dk_at dksX2_looksAtParallel_2 15 rfl rfl)
theorem dX2_looksAtParallel_66 : decode cX2_looksAtParallel 66 = .ok (.aload_n 0, 1) := dk_42 (dk_at dksX2_looksAtParallel_2 18 rfl rfl)
theorem dX2_looksAtParallel_67 : decode cX2_looksAtParallel 67 = .ok (.iload_n 1, 1) := dk_27 (dk_at dksX2_looksAtParallel_2 19 rfl rfl)
theorem dX2_looksAtParallel_68 : decode cX2_looksAtParallel 68 = .ok (.iload_n 2, 1) := dk_28 (dk_at dksX2_looksAtParallel_2 20 rfl rfl)
theorem dX2_looksAtParallel_69 : decode cX2_looksAtParallel 69 = .ok (.iconst 1, 1) := dk_4 (dk_at dksX2_looksAtParallel_2 21 rfl rfl)
theorem dX2_looksAtParallel_70 : decode cX2_looksAtParallel 70 = .ok (.invokevirtual 171, 3) := dk_182 0 171 (dk_at dksX2_looksAtParallel_3 0 rfl rfl)
theorem dX2_looksAtParallel_73 : decode cX2_looksAtParallel 73 = .ok (.istore_n 3, 1) := dk_62 (dk_at dksX2_looksAtParallel_3 3 rfl rfl)
theorem dX2_looksAtParallel_74 : decode cX2_looksAtParallel 74 = .ok (.aload_n 0, 1) := dk_42 (dk_at dksX2_looksAtParallel_3 4 rfl rfl)
theorem dX2_looksAtParallel_75 : decode cX2_looksAtParallel 75 = .ok (.iload_n 1, 1) := dk_27 (dk_at dksX2_looksAtParallel_3 5 rfl rfl)
theorem dX2_looksAtParallel_76 : decode cX2_looksAtParallel 76 = .ok (.iload_n 2, 1) := dk_28 (dk_at dksX2_looksAtParallel_3 6 rfl rfl)
theorem dX2_looksAtParallel_77 : decode cX2_looksAtParallel 77 = .ok (.iconst 2, 1) := dk_5 (dk_at dksX2_looksAtParallel_3 7 rfl rfl)
theorem dX2_looksAtParallel_78 : decode cX2_looksAtParallel 78 = .ok (.invokevirtual 211, 3) := dk_182 0 211 (dk_at dksX2_looksAtParallel_3 8 rfl rfl)
theorem dX2_looksAtParallel_81 : decode cX2_looksAtParallel 81 = .ok (.istore 4, 2) := dk_54 4 (dk_at dksX2_looksAtParallel_3 11 rfl rfl)
theorem dX2_looksAtParallel_83 : decode cX2_looksAtParallel 83 = .ok (.iload 4, 2) := dk_21 4 (dk_at dksX2_looksAtParallel_3 13 rfl rfl)
theorem dX2_looksAtParallel_85 : decode cX2_looksAtParallel 85 = .ok (.aload_n 0, 1) := dk_42 (dk_at dksX2_looksAtParallel_3 15 rfl rfl)
theorem dX2_looksAtParallel_86 : decode cX2_looksAtParallel 86 = .ok (.iload_n 1, 1) := dk_27 (dk_at dksX2_looksAtParallel_3 16 rfl rfl)
theorem dX2_looksAtParallel_87 : decode cX2_looksAtParallel 87 = .ok (.iload_n 2, 1) := dk_28 (dk_at dksX2_looksAtParallel_3 17 rfl rfl)
theorem dX2_looksAtParallel_88 : decode cX2_looksAtParallel 88 = .ok (.iconst 1, 1) := dk_4 (dk_at dksX2_looksAtParallel_3 18 rfl rfl)
theorem dX2_looksAtParallel_89 : decode cX2_looksAtParallel 89 = .ok (.invokevirtual 211, 3) := dk_182 0 211 (dk_at dksX2_looksAtParallel_3 19 rfl rfl)
theorem dX2_looksAtParallel_92 : decode cX2_looksAtParallel 92 = .ok (.iadd, 1) := dk_96 (dk_at dksX2_looksAtParallel_3 22 rfl rfl)
theorem dX2_looksAtParallel_93 : decode cX2_looksAtParallel 93 = .ok (.iload_n 3, 1) := dk_29 (dk_at dksX2_looksAtParallel_3 23 rfl rfl)
theorem dX2_looksAtParallel_94 : decode cX2_looksAtParallel 94 = .ok (.if_icmp .ge 17, 3) := dk_162 0 17 (dk_at dksX2_looksAtParallel_4 0 rfl rfl)
theorem dX2_looksAtParallel_97 : decode cX2_looksAtParallel 97 = .ok (.aload_n 0, 1) := dk_42 (dk_at dksX2_looksAtParallel_4 3 rfl rfl)
theorem dX2_looksAtParallel_98 : decode cX2_looksAtParallel 98 = .ok (.iload_n 1, 1) := dk_27 (dk_at dksX2_looksAtParallel_4 4 rfl rfl)
theorem dX2_looksAtParallel_99 : decode cX2_looksAtParallel 99 = .ok (.iload_n 2, 1) := dk_28 (dk_at dksX2_looksAtParallel_4 5 rfl rfl)
theorem dX2_looksAtParallel_100 : decode cX2_looksAtParallel 100 = .ok (.invokevirtual 214, 3) := dk_182 0 214 (dk_at dksX2_looksAtParallel_4 6 rfl rfl)
theorem dX2_looksAtParallel_103 : decode cX2_looksAtParallel 103 = .ok (.aload_n 0, 1) := dk_42 (dk_at dksX2_looksAtParallel_4 9 rfl rfl)
theorem dX2_looksAtParallel_104 : decode cX2_looksAtParallel 104 = .ok (.iload_n 1, 1) := dk_27 (dk_at dksX2_looksAtParallel_4 10 rfl rfl)
theorem dX2_looksAtParallel_105 : decode cX2_looksAtParallel 105 = .ok (.iload_n 2, 1) := dk_28 (dk_at dksX2_looksAtParallel_4 11 rfl rfl)
theorem dX2_looksAtParallel_106 : decode cX2_looksAtParallel 106 = .ok (.iconst 3, 1) := dk_6 (dk_at dksX2_looksAtParallel_4 12 rfl rfl)
theorem dX2_looksAtParallel_107 : decode cX2_looksAtParallel 107 = .ok (.invokevirtual 184, 3) := dk_182 0 184 (dk_at dksX2_looksAtParallel_4 13 rfl rfl)
theorem dX2_looksAtParallel_110 : decode cX2_looksAtParallel 110 = .ok (.ireturn, 1) := dk_172 (dk_at dksX2_looksAtParallel_4 16 rfl rfl)
theorem dX2_looksAtParallel_111 : decode cX2_looksAtParallel 111 = .ok (.iload 4, 2) := dk_21 4 (dk_at dksX2_looksAtParallel_4 17 rfl rfl)
theorem dX2_looksAtParallel_113 : decode cX2_looksAtParallel 113 = .ok (.iload_n 3, 1) := dk_29 (dk_at dksX2_looksAtParallel_4 19 rfl rfl)
theorem dX2_looksAtParallel_114 : decode cX2_looksAtParallel 114 = .ok (.if_icmp .ge 5, 3) := dk_162 0 5 (dk_at dksX2_looksAtParallel_4 20 rfl rfl)
theorem dX2_looksAtParallel_117 : decode cX2_looksAtParallel 117 = .ok (.iconst 1, 1) := dk_4 (dk_at dksX2_looksAtParallel_4 23 rfl rfl)
theorem dX2_looksAtParallel_118 : decode cX2_looksAtParallel 118 = .ok (.ireturn, 1) := dk_172 (dk_at dksX2_looksAtParallel_5 0 rfl rfl)
theorem dX2_looksAtParallel_119 : decode cX2_looksAtParallel 119 = .ok (.aload_n 0, 1) := dk_42 (dk_at dksX2_looksAtParallel_5 1 rfl rfl)
theorem dX2_looksAtParallel_120 : decode cX2_looksAtParallel 120 = .ok (.iload_n 1, 1) := dk_27 (dk_at dksX2_looksAtParallel_5 2 rfl rfl)
theorem dX2_looksAtParallel_121 : decode cX2_looksAtParallel 121 = .ok (.iload_n 2, 1) := dk_28 (dk_at dksX2_looksAtParallel_5 3 rfl rfl)
theorem dX2_looksAtParallel_122 : decode cX2_looksAtParallel 122 = .ok (.invokevirtual 214, 3) := dk_182 0 214 (dk_at dksX2_looksAtParallel_5 4 rfl rfl)
theorem dX2_looksAtParallel_125 : decode cX2_looksAtParallel 125 = .ok (.aload_n 0, 1) := dk_42 (dk_at dksX2_looksAtParallel_5 7 rfl rfl)
theorem dX2_looksAtParallel_126 : decode cX2_looksAtParallel 126 = .ok (.getfield 22, 3) := dk_180 0 22 (dk_at dksX2_looksAtParallel_5 8 rfl rfl)
theorem dX2_looksAtParallel_129 : decode cX2_looksAtParallel 129 = .ok (.iload_n 1, 1) := dk_27 (dk_at dksX2_looksAtParallel_5 11 rfl rfl)
theorem dX2_looksAtParallel_130 : decode cX2_looksAtParallel 130 = .ok (.iload_n 2, 1) := dk_28 (dk_at dksX2_looksAtParallel_5 12 rfl rfl)
theorem dX2_looksAtParallel_131 : decode cX2_looksAtParallel 131 = .ok (.iconst 0, 1) := dk_3 (dk_at dksX2_looksAtParallel_5 13 rfl rfl)
theorem dX2_looksAtParallel_132 : decode cX2_looksAtParallel 132 = .ok (.invokestatic 169, 3) := dk_184 0 169 (dk_at dksX2_looksAtParallel_5 14 rfl rfl)
theorem dX2_looksAtParallel_135 : decode cX2_looksAtParallel 135 = .ok (.iconst 5, 1) := dk_8 (dk_at dksX2_looksAtParallel_5 17 rfl rfl)
theorem dX2_looksAtParallel_136 : decode cX2_looksAtParallel 136 = .ok (.iastore, 1) := dk_79 (dk_at dksX2_looksAtParallel_5 18 rfl rfl)
theorem dX2_looksAtParallel_137 : decode cX2_looksAtParallel 137 = .ok (.aload_n 0, 1) := dk_42 (dk_at dksX2_looksAtParallel_5 19 rfl rfl)
theorem dX2_looksAtParallel_138 : decode cX2_looksAtParallel 138 = .ok (.getfield 22, 3) := dk_180 0 22 (dk_at dksX2_looksAtParallel_5 20 rfl rfl)
theorem dX2_looksAtParallel_141 : decode cX2_looksAtParallel 141 = .ok (.iload_n 1, 1) := dk_27 (dk_at dksX2_looksAtParallel_5 23 rfl rfl)
theorem dX2_looksAtParallel_142 : decode cX2_looksAtParallel 142 = .ok (.iload_n 2, 1) := dk_28 (dk_at dksX2_looksAtParallel_6 0 rfl rfl)
theorem dX2_looksAtParallel_143 : decode cX2_looksAtParallel 143 = .ok (.bipush 7, 2) := dk_16 7 (dk_at dksX2_looksAtParallel_6 1 rfl rfl)
theorem dX2_looksAtParallel_145 : decode cX2_looksAtParallel 145 = .ok (.invokestatic 169, 3) := dk_184 0 169 (dk_at dksX2_looksAtParallel_6 3 rfl rfl)
theorem dX2_looksAtParallel_148 : decode cX2_looksAtParallel 148 = .ok (.iconst (-1), 1) := dk_2 (dk_at dksX2_looksAtParallel_6 6 rfl rfl)
theorem dX2_looksAtParallel_149 : decode cX2_looksAtParallel 149 = .ok (.iastore, 1) := dk_79 (dk_at dksX2_looksAtParallel_6 7 rfl rfl)
theorem dX2_looksAtParallel_150 : decode cX2_looksAtParallel 150 = .ok (.aload_n 0, 1) := dk_42 (dk_at dksX2_looksAtParallel_6 8 rfl rfl)
theorem dX2_looksAtParallel_151 : decode cX2_looksAtParallel 151 = .ok (.iload_n 1, 1) := dk_27 (dk_at dksX2_looksAtParallel_6 9 rfl rfl)
theorem dX2_looksAtParallel_152 : decode cX2_looksAtParallel 152 = .ok (.iload_n 2, 1) := dk_28 (dk_at dksX2_looksAtParallel_6 10 rfl rfl)
theorem dX2_looksAtParallel_153 : decode cX2_looksAtParallel 153 = .ok (.invokevirtual 217, 3) := dk_182 0 217 (dk_at dksX2_looksAtParallel_6 11 rfl rfl)
theorem dX2_looksAtParallel_156 : decode cX2_looksAtParallel 156 = .ok (.ifCond .ne 5, 3) := dk_154 0 5 (dk_at dksX2_looksAtParallel_6 14 rfl rfl)
theorem dX2_looksAtParallel_159 : decode cX2_looksAtParallel 159 = .ok (.iconst 5, 1) := dk_8 (dk_at dksX2_looksAtParallel_6 17 rfl rfl)
theorem dX2_looksAtParallel_160 : decode cX2_looksAtParallel 160 = .ok (.ireturn, 1) := dk_172 (dk_at dksX2_looksAtParallel_6 18 rfl rfl)
theorem dX2_looksAtParallel_161 : decode cX2_looksAtParallel 161 = .ok (.aload_n 0, 1) := dk_42 (dk_at dksX2_looksAtParallel_6 19 rfl rfl)
theorem dX2_looksAtParallel_162 : decode cX2_looksAtParallel 162 = .ok (.iload_n 1, 1) := dk_27 (dk_at dksX2_looksAtParallel_6 20 rfl rfl)
theorem dX2_looksAtParallel_163 : decode cX2_looksAtParallel 163 = .ok (.bipush 9, 2) := dk_16 9 (dk_at dksX2_looksAtParallel_6 21 rfl rfl)
theorem dX2_looksAtParallel_165 : decode cX2_looksAtParallel 165 = .ok (.aload_n 0, 1) := dk_42 (dk_at dksX2_looksAtParallel_6 23 rfl rfl)
theorem dX2_looksAtParallel_166 : decode cX2_looksAtParallel 166 = .ok (.iload_n 1, 1) := dk_27 (dk_at dksX2_looksAtParallel_7 0 rfl rfl)
theorem dX2_looksAtParallel_167 : decode cX2_looksAtParallel 167 = .ok (.iload_n 2, 1) := dk_28 (dk_at dksX2_looksAtParallel_7 1 rfl rfl)
theorem dX2_looksAtParallel_168 : decode cX2_looksAtParallel 168 = .ok (.iconst 2, 1) := dk_5 (dk_at dksX2_looksAtParallel_7 2 rfl rfl)
theorem dX2_looksAtParallel_169 : decode cX2_looksAtParallel 169 = .ok (.invokevirtual 211, 3) := dk_182 0 211 (dk_at dksX2_looksAtParallel_7 3 rfl rfl)
theorem dX2_looksAtParallel_172 : decode cX2_looksAtParallel 172 = .ok (.invokevirtual 174, 3) := dk_182 0 174 (dk_at dksX2_looksAtParallel_7 6 rfl rfl)
theorem dX2_looksAtParallel_175 : decode cX2_looksAtParallel 175 = .ok (.aload_n 0, 1) := dk_42 (dk_at dksX2_looksAtParallel_7 9 rfl rfl)
theorem dX2_looksAtParallel_176 : decode cX2_looksAtParallel 176 = .ok (.iload_n 1, 1) := dk_27 (dk_at dksX2_looksAtParallel_7 10 rfl rfl)
theorem dX2_looksAtParallel_177 : decode cX2_looksAtParallel 177 = .ok (.iload_n 2, 1) := dk_28 (dk_at dksX2_looksAtParallel_7 11 rfl rfl)
theorem dX2_looksAtParallel_178 : decode cX2_looksAtParallel 178 = .ok (.iconst 2, 1) := dk_5 (dk_at dksX2_looksAtParallel_7 12 rfl rfl)
theorem dX2_looksAtParallel_179 : decode cX2_looksAtParallel 179 = .ok (.invokevirtual 184, 3) := dk_182 0 184 (dk_at dksX2_looksAtParallel_7 13 rfl rfl)
theorem dX2_looksAtParallel_182 : decode cX2_looksAtParallel 182 = .ok (.ireturn, 1) := dk_172 (dk_at dksX2_looksAtParallel_7 16 rfl rfl)
theorem hd_X2_compensates : (yX2_compensates.cls ≠ "java/lang/invoke/MethodHandle" ∧ yX2_compensates.cls ≠ "java/lang/invoke/VarHandle" ∧ (parseMethodDescriptor yX2_compensates.desc).map (fun d => d.parameters.length) = some 2) := ⟨by decide +kernel, by decide +kernel, by decide +kernel⟩
theorem hd_X2_bodiesIn : (yX2_bodiesIn.cls ≠ "java/lang/invoke/MethodHandle" ∧ yX2_bodiesIn.cls ≠ "java/lang/invoke/VarHandle" ∧ (parseMethodDescriptor yX2_bodiesIn.desc).map (fun d => d.parameters.length) = some 3) := ⟨by decide +kernel, by decide +kernel, by decide +kernel⟩
theorem hd_X2_cancelsBodies : (yX2_cancelsBodies.cls ≠ "java/lang/invoke/MethodHandle" ∧ yX2_cancelsBodies.cls ≠ "java/lang/invoke/VarHandle" ∧ (parseMethodDescriptor yX2_cancelsBodies.desc).map (fun d => d.parameters.length) = some 2) := ⟨by decide +kernel, by decide +kernel, by decide +kernel⟩
theorem hd_X2_looksAtBody : (yX2_looksAtBody.cls ≠ "java/lang/invoke/MethodHandle" ∧ yX2_looksAtBody.cls ≠ "java/lang/invoke/VarHandle" ∧ (parseMethodDescriptor yX2_looksAtBody.desc).map (fun d => d.parameters.length) = some 2) := ⟨by decide +kernel, by decide +kernel, by decide +kernel⟩
def t_X2_looksAtParallel (rec : Int32 → Int32 → TS → Option (Int32 × TS)) (p1 : Int32) (p2 : Int32) (w0 : TS) : Option (Int32 × TS) := gB2 (t_X2_at p1 p2 (nI 0) w0) fun x2 w1 => gB1 (tLd w1 5 x2) fun x3 => gBd (fun (x6 : Int32) (x7 : Int32) (w5 : TS) => gB2 (t_X2_compensates x6 x7 w5) fun x9 w8 => if x9 = 0 then some ((nI 5), w8) else gB2 (t_X2_bodiesIn x6 x7 (nI 2) w8) fun x12 w11 => gB2 (t_X2_notes x6 (nI 9) x12 w11) fun _ w13 => gB2 (t_X2_comesTo x6 x7 (nI 2) w13) fun x15 w14 => some (x15, w14)) fun k4 => if x3 = (nI 5) then k4 p1 p2 w1 else gB2 (t_X2_nodePart p1 p2 (nI 5) w1) fun x18 w17 => gL3 (fun k23 (x20 : Int32) (x21 : Int32) (x22 : Int32) (w19 : TS) => if x22 < 0 then gB2 (t_X2_nodePart x20 x21 (nI 1) w19) fun x26 w25 => gB2 (t_X2_bodiesIn x20 x21 (nI 2) w25) fun x28 w27 => gB2 (t_X2_bodiesIn x20 x21 (nI 1) w27) fun x30 w29 => if x26 ≤ (x28 + x30) then if x26 ≤ x28 then gB2 (t_X2_cancelsBodies x20 x21 w29) fun _ w33 => gB2 (t_X2_at x20 x21 (nI 0) w33) fun x35 w34 => gB1 (tSt w34 5 x35 (nI 5)) fun w36 => gB2 (t_X2_at x20 x21 (nI 7) w36) fun x38 w37 => gB1 (tSt w37 5 x38 (-1)) fun w39 => k4 x20 x21 w39 else some ((nI 1), w29) else gB2 (t_X2_cancelsBodies x20 x21 w29) fun _ w40 => gB2 (t_X2_comesTo x20 x21 (nI 3) w40) fun x42 w41 => some (x42, w41) else gB2 (t_X2_at x20 x22 (nI 0) w19) fun x44 w43 => gB1 (tLd w43 5 x44) fun x45 => gBd (fun (x48 : Int32) (x49 : Int32) (x50 : Int32) (x51 : Int32) (w47 : TS) => gB2 (t_X2_nodePart x48 x50 (nI 6) w47) fun x53 w52 => k23 x48 x49 x53 w52) fun k46 => if x45 = (nI 1) then gB2 (rec x20 x22 w43) fun x56 w55 => k46 x20 x21 x22 x56 w55 else k46 x20 x21 x22 (nI 0) w43) 20000 p1 p2 x18 w17
set_option maxHeartbeats 4000000 in
set_option maxRecDepth 100000 in
theorem kt_X2_looksAtParallel {D : va_G} {dA : Nat → ClassId} {A : Nat → Prop} {K : Nat → Nat} {l : Launch} {wb : gw} {ad : Nat → Nat} (hinj : tInj ad) {h : Nat} {rec : Int32 → Int32 → TS → Option (Int32 × TS)} {B : Nat} (hrec : ∀ {h : Nat}, B ≤ h → ∀ {p1 : Int32} {p2 : Int32} {w0 ww : TS} {rr : Int32}, rec p1 p2 w0 = some (rr, ww) → gMet D dA A K l yX2_looksAtBody (ws_ yX2_looksAtBody cX2_looksAtBody 5 (some .int)) h [(ga (some (ad 0))), (gi p1), (gi p2)] (some (gi rr)) (twOf wb ad w0) (twOf wb ad ww)) (hb : 17 ≤ B) (hh : B + 1 ≤ h) {p1 : Int32} {p2 : Int32} {w0 ww : TS} {rr : Int32} (hf : t_X2_looksAtParallel rec p1 p2 w0 = some (rr, ww)) : gMet D dA A K l yX2_looksAtParallel (ws_ yX2_looksAtParallel cX2_looksAtParallel 5 (some .int)) h [(ga (some (ad 0))), (gi p1), (gi p2)] (some (gi rr)) (twOf wb ad w0) (twOf wb ad ww) := by
  refine j_start (own := RX2) (by decide +kernel) rfl (Nat.le_of_ble_eq_true rfl) ?_
  intro p e R s m args below meth c C hr hin hw
  unfold t_X2_looksAtParallel at hf
  show gJ D dA A K p l e R s m args below meth c (gEnd D dA A K below args s (twOf wb ad w0) (some (gi rr)) (twOf wb ad ww)) 5 0 [(0, (ga (some (ad 0)))), (1, (gi p1)), (2, (gi p2))] [] (twOf wb ad w0)
  refine j_aload_n C dX2_looksAtParallel_0 rfl ?_
  refine j_get (v := (ga (some (ad 5)))) C fl_X2_22_2 dX2_looksAtParallel_1 (tw_F hinj rfl) ?_
  refine j_iload_n C dX2_looksAtParallel_4 rfl ?_
  refine j_iload_n C dX2_looksAtParallel_5 rfl ?_
  refine j_iconst (v := (nI 0)) C dX2_looksAtParallel_6 (by decide) ?_
  replace hf := gB2_e hf
  obtain ⟨x2, w1, ew1, hf⟩ := hf
  refine j_callS (As := [(gi p1), (gi p2), (gi (nI 0))]) (rest := [(ga (some (ad 5)))]) (v := (some (gi x2))) C (by omega) (kt_X2_at hinj (by omega) ew1) q1801 q1802 q93 q1803 hd_X2_at (by decide) rfl (Nat.le_of_ble_eq_true rfl) dX2_looksAtParallel_7 ?_
  replace hf := gB1_e hf
  obtain ⟨x3, ex3, hf⟩ := hf
  refine j_iald C (tw_ld hinj ex3) dX2_looksAtParallel_10 ?_
  refine j_iconst (v := (nI 5)) C dX2_looksAtParallel_11 (by decide) ?_
  replace hf := gBd_x hf
  obtain ⟨k4, ek4, hf⟩ := hf
  have jk4 : ∀ (x6 : Int32) (x7 : Int32) (w5 : TS), k4 x6 x7 w5 = some (rr, ww) → gJ D dA A K p l e R s m args below meth c (gEnd D dA A K below args s (twOf wb ad w0) (some (gi rr)) (twOf wb ad ww)) 5 150 [(0, (ga (some (ad 0)))), (1, (gi x6)), (2, (gi x7))] [] (twOf wb ad w5) := by
    intro x6 x7 w5 hf
    rw [ek4] at hf
    dsimp only at hf
    refine j_aload_n C dX2_looksAtParallel_150 rfl ?_
    refine j_iload_n C dX2_looksAtParallel_151 rfl ?_
    refine j_iload_n C dX2_looksAtParallel_152 rfl ?_
    replace hf := gB2_e hf
    obtain ⟨x9, w8, ew8, hf⟩ := hf
    refine j_callV (As := [(gi x6), (gi x7)]) (rest := []) (v := (some (gi x9))) C (by omega) (kt_X2_compensates hinj (by omega) ew8) (tw_cls hinj) rfl q1872 q1874 qs75 q93 q1875 ⟨rfl, hd_X2_compensates⟩ (by decide) rfl (Nat.le_of_ble_eq_true rfl) dX2_looksAtParallel_153 ?_
    refine j_if_ne (tgt := 161) C dX2_looksAtParallel_156 (by decide) (fun c10 => ?_) (fun c10 => ?_)
    · replace hf := gIf_f hf c10
      refine j_aload_n C dX2_looksAtParallel_161 rfl ?_
      refine j_iload_n C dX2_looksAtParallel_162 rfl ?_
      refine j_bipush (v := (nI 9)) C dX2_looksAtParallel_163 (by decide) ?_
      refine j_aload_n C dX2_looksAtParallel_165 rfl ?_
      refine j_iload_n C dX2_looksAtParallel_166 rfl ?_
      refine j_iload_n C dX2_looksAtParallel_167 rfl ?_
      refine j_iconst (v := (nI 2)) C dX2_looksAtParallel_168 (by decide) ?_
      replace hf := gB2_e hf
      obtain ⟨x12, w11, ew11, hf⟩ := hf
      refine j_callV (As := [(gi x6), (gi x7), (gi (nI 2))]) (rest := [(gi (nI 9)), (gi x6), (ga (some (ad 0)))]) (v := (some (gi x12))) C (by omega) (kt_X2_bodiesIn hinj (by omega) ew11) (tw_cls hinj) rfl q1860 q1862 qs72 q93 q1863 ⟨rfl, hd_X2_bodiesIn⟩ (by decide) rfl (Nat.le_of_ble_eq_true rfl) dX2_looksAtParallel_169 ?_
      replace hf := gB2_e hf
      obtain ⟨_, w13, ew13, hf⟩ := hf
      refine j_callV (As := [(gi x6), (gi (nI 9)), (gi x12)]) (rest := []) (v := none) C (by omega) (kt_X2_notes hinj (by omega) ew13) (tw_cls hinj) rfl q1828 q1830 qs64 q93 q1831 ⟨rfl, hd_X2_notes⟩ (by decide) rfl (Nat.le_of_ble_eq_true rfl) dX2_looksAtParallel_172 ?_
      refine j_aload_n C dX2_looksAtParallel_175 rfl ?_
      refine j_iload_n C dX2_looksAtParallel_176 rfl ?_
      refine j_iload_n C dX2_looksAtParallel_177 rfl ?_
      refine j_iconst (v := (nI 2)) C dX2_looksAtParallel_178 (by decide) ?_
      replace hf := gB2_e hf
      obtain ⟨x15, w14, ew14, hf⟩ := hf
      refine j_callV (As := [(gi x6), (gi x7), (gi (nI 2))]) (rest := []) (v := (some (gi x15))) C (by omega) (kt_X2_comesTo hinj (by omega) ew14) (tw_cls hinj) rfl q1844 q1846 qs68 q93 q1847 ⟨rfl, hd_X2_comesTo⟩ (by decide) rfl (Nat.le_of_ble_eq_true rfl) dX2_looksAtParallel_179 ?_
      obtain ⟨rfl, rfl⟩ := gSome hf
      exact j_iret C hr hw dX2_looksAtParallel_182
    · replace hf := gIf_t hf c10
      refine j_iconst (v := (nI 5)) C dX2_looksAtParallel_159 (by decide) ?_
      obtain ⟨rfl, rfl⟩ := gSome hf
      exact j_iret C hr hw dX2_looksAtParallel_160
  clear ek4
  refine j_icmp_eq (tgt := 150) C dX2_looksAtParallel_12 (by decide) (fun c16 => ?_) (fun c16 => ?_)
  · replace hf := gIf_t hf c16
    exact jk4 _ _ _ hf
  · replace hf := gIf_f hf c16
    refine j_aload_n C dX2_looksAtParallel_15 rfl ?_
    refine j_iload_n C dX2_looksAtParallel_16 rfl ?_
    refine j_iload_n C dX2_looksAtParallel_17 rfl ?_
    refine j_iconst (v := (nI 5)) C dX2_looksAtParallel_18 (by decide) ?_
    replace hf := gB2_e hf
    obtain ⟨x18, w17, ew17, hf⟩ := hf
    refine j_callV (As := [(gi p1), (gi p2), (gi (nI 5))]) (rest := []) (v := (some (gi x18))) C (by omega) (kt_X2_nodePart hinj (by omega) ew17) (tw_cls hinj) rfl q1812 q1814 qs60 q93 q1815 ⟨rfl, hd_X2_nodePart⟩ (by decide) rfl (Nat.le_of_ble_eq_true rfl) dX2_looksAtParallel_19 ?_
    refine j_istore_n (lv' := [(3, (gi x18)), (0, (ga (some (ad 0)))), (1, (gi p1)), (2, (gi p2))]) C dX2_looksAtParallel_22 (by decide) rfl ?_
    refine j_sub (lv' := [(0, (ga (some (ad 0)))), (1, (gi p1)), (2, (gi p2)), (3, (gi x18))]) (gL_cons rfl (gL_cons rfl (gL_cons rfl (gL_cons rfl (gL_nil))))) ?_
    refine gL3_e (fun (x20 : Int32) (x21 : Int32) (x22 : Int32) (w19 : TS) => gJ D dA A K p l e R s m args below meth c (gEnd D dA A K below args s (twOf wb ad w0) (some (gi rr)) (twOf wb ad ww)) 5 23 [(0, (ga (some (ad 0)))), (1, (gi x20)), (2, (gi x21)), (3, (gi x22))] [] (twOf wb ad w19)) ?_ _ _ _ _ _ hf
    intro k23 jk23 x20 x21 x22 w19 hf
    refine j_iload_n C dX2_looksAtParallel_23 rfl ?_
    refine j_if_lt (tgt := 66) C dX2_looksAtParallel_24 (by decide) (fun c24 => ?_) (fun c24 => ?_)
    · replace hf := gIf_t hf c24
      refine j_aload_n C dX2_looksAtParallel_66 rfl ?_
      refine j_iload_n C dX2_looksAtParallel_67 rfl ?_
      refine j_iload_n C dX2_looksAtParallel_68 rfl ?_
      refine j_iconst (v := (nI 1)) C dX2_looksAtParallel_69 (by decide) ?_
      replace hf := gB2_e hf
      obtain ⟨x26, w25, ew25, hf⟩ := hf
      refine j_callV (As := [(gi x20), (gi x21), (gi (nI 1))]) (rest := []) (v := (some (gi x26))) C (by omega) (kt_X2_nodePart hinj (by omega) ew25) (tw_cls hinj) rfl q1812 q1814 qs60 q93 q1815 ⟨rfl, hd_X2_nodePart⟩ (by decide) rfl (Nat.le_of_ble_eq_true rfl) dX2_looksAtParallel_70 ?_
      refine j_istore_n (lv' := [(3, (gi x26)), (0, (ga (some (ad 0)))), (1, (gi x20)), (2, (gi x21))]) C dX2_looksAtParallel_73 (by decide) rfl ?_
      refine j_aload_n C dX2_looksAtParallel_74 rfl ?_
      refine j_iload_n C dX2_looksAtParallel_75 rfl ?_
      refine j_iload_n C dX2_looksAtParallel_76 rfl ?_
      refine j_iconst (v := (nI 2)) C dX2_looksAtParallel_77 (by decide) ?_
      replace hf := gB2_e hf
      obtain ⟨x28, w27, ew27, hf⟩ := hf
      refine j_callV (As := [(gi x20), (gi x21), (gi (nI 2))]) (rest := []) (v := (some (gi x28))) C (by omega) (kt_X2_bodiesIn hinj (by omega) ew27) (tw_cls hinj) rfl q1860 q1862 qs72 q93 q1863 ⟨rfl, hd_X2_bodiesIn⟩ (by decide) rfl (Nat.le_of_ble_eq_true rfl) dX2_looksAtParallel_78 ?_
      refine j_istore (lv' := [(4, (gi x28)), (3, (gi x26)), (0, (ga (some (ad 0)))), (1, (gi x20)), (2, (gi x21))]) C dX2_looksAtParallel_81 (by decide) rfl ?_
      refine j_iload C dX2_looksAtParallel_83 rfl ?_
      refine j_aload_n C dX2_looksAtParallel_85 rfl ?_
      refine j_iload_n C dX2_looksAtParallel_86 rfl ?_
      refine j_iload_n C dX2_looksAtParallel_87 rfl ?_
      refine j_iconst (v := (nI 1)) C dX2_looksAtParallel_88 (by decide) ?_
      replace hf := gB2_e hf
      obtain ⟨x30, w29, ew29, hf⟩ := hf
      refine j_callV (As := [(gi x20), (gi x21), (gi (nI 1))]) (rest := [(gi x28)]) (v := (some (gi x30))) C (by omega) (kt_X2_bodiesIn hinj (by omega) ew29) (tw_cls hinj) rfl q1860 q1862 qs72 q93 q1863 ⟨rfl, hd_X2_bodiesIn⟩ (by decide) rfl (Nat.le_of_ble_eq_true rfl) dX2_looksAtParallel_89 ?_
      refine j_iadd C dX2_looksAtParallel_92 ?_
      refine j_iload_n C dX2_looksAtParallel_93 rfl ?_
      refine j_icmp_ge (tgt := 111) C dX2_looksAtParallel_94 (by decide) (fun c31 => ?_) (fun c31 => ?_)
      · replace hf := gIf_t hf c31
        refine j_iload C dX2_looksAtParallel_111 rfl ?_
        refine j_iload_n C dX2_looksAtParallel_113 rfl ?_
        refine j_icmp_ge (tgt := 119) C dX2_looksAtParallel_114 (by decide) (fun c32 => ?_) (fun c32 => ?_)
        · replace hf := gIf_t hf c32
          refine j_aload_n C dX2_looksAtParallel_119 rfl ?_
          refine j_iload_n C dX2_looksAtParallel_120 rfl ?_
          refine j_iload_n C dX2_looksAtParallel_121 rfl ?_
          replace hf := gB2_e hf
          obtain ⟨_, w33, ew33, hf⟩ := hf
          refine j_callV (As := [(gi x20), (gi x21)]) (rest := []) (v := none) C (by omega) (kt_X2_cancelsBodies hinj (by omega) ew33) (tw_cls hinj) rfl q1864 q1866 qs73 q93 q1867 ⟨rfl, hd_X2_cancelsBodies⟩ (by decide) rfl (Nat.le_of_ble_eq_true rfl) dX2_looksAtParallel_122 ?_
          refine j_aload_n C dX2_looksAtParallel_125 rfl ?_
          refine j_get (v := (ga (some (ad 5)))) C fl_X2_22_2 dX2_looksAtParallel_126 (tw_F hinj rfl) ?_
          refine j_iload_n C dX2_looksAtParallel_129 rfl ?_
          refine j_iload_n C dX2_looksAtParallel_130 rfl ?_
          refine j_iconst (v := (nI 0)) C dX2_looksAtParallel_131 (by decide) ?_
          replace hf := gB2_e hf
          obtain ⟨x35, w34, ew34, hf⟩ := hf
          refine j_callS (As := [(gi x20), (gi x21), (gi (nI 0))]) (rest := [(ga (some (ad 5)))]) (v := (some (gi x35))) C (by omega) (kt_X2_at hinj (by omega) ew34) q1801 q1802 q93 q1803 hd_X2_at (by decide) rfl (Nat.le_of_ble_eq_true rfl) dX2_looksAtParallel_132 ?_
          refine j_iconst (v := (nI 5)) C dX2_looksAtParallel_135 (by decide) ?_
          replace hf := gB1_e hf
          obtain ⟨w36, ew36, hf⟩ := hf
          refine j_iast C (tw_st hinj ew36) dX2_looksAtParallel_136 ?_
          refine j_aload_n C dX2_looksAtParallel_137 rfl ?_
          refine j_get (v := (ga (some (ad 5)))) C fl_X2_22_2 dX2_looksAtParallel_138 (tw_F hinj rfl) ?_
          refine j_iload_n C dX2_looksAtParallel_141 rfl ?_
          refine j_iload_n C dX2_looksAtParallel_142 rfl ?_
          refine j_bipush (v := (nI 7)) C dX2_looksAtParallel_143 (by decide) ?_
          replace hf := gB2_e hf
          obtain ⟨x38, w37, ew37, hf⟩ := hf
          refine j_callS (As := [(gi x20), (gi x21), (gi (nI 7))]) (rest := [(ga (some (ad 5)))]) (v := (some (gi x38))) C (by omega) (kt_X2_at hinj (by omega) ew37) q1801 q1802 q93 q1803 hd_X2_at (by decide) rfl (Nat.le_of_ble_eq_true rfl) dX2_looksAtParallel_145 ?_
          refine j_iconst (v := (-1)) C dX2_looksAtParallel_148 (by decide) ?_
          replace hf := gB1_e hf
          obtain ⟨w39, ew39, hf⟩ := hf
          refine j_iast C (tw_st hinj ew39) dX2_looksAtParallel_149 ?_
          refine j_sub (lv' := [(0, (ga (some (ad 0)))), (1, (gi x20)), (2, (gi x21))]) (gL_cons rfl (gL_cons rfl (gL_cons rfl (gL_nil)))) ?_
          exact jk4 _ _ _ hf
        · replace hf := gIf_f hf c32
          refine j_iconst (v := (nI 1)) C dX2_looksAtParallel_117 (by decide) ?_
          obtain ⟨rfl, rfl⟩ := gSome hf
          exact j_iret C hr hw dX2_looksAtParallel_118
      · replace hf := gIf_f hf c31
        refine j_aload_n C dX2_looksAtParallel_97 rfl ?_
        refine j_iload_n C dX2_looksAtParallel_98 rfl ?_
        refine j_iload_n C dX2_looksAtParallel_99 rfl ?_
        replace hf := gB2_e hf
        obtain ⟨_, w40, ew40, hf⟩ := hf
        refine j_callV (As := [(gi x20), (gi x21)]) (rest := []) (v := none) C (by omega) (kt_X2_cancelsBodies hinj (by omega) ew40) (tw_cls hinj) rfl q1864 q1866 qs73 q93 q1867 ⟨rfl, hd_X2_cancelsBodies⟩ (by decide) rfl (Nat.le_of_ble_eq_true rfl) dX2_looksAtParallel_100 ?_
        refine j_aload_n C dX2_looksAtParallel_103 rfl ?_
        refine j_iload_n C dX2_looksAtParallel_104 rfl ?_
        refine j_iload_n C dX2_looksAtParallel_105 rfl ?_
        refine j_iconst (v := (nI 3)) C dX2_looksAtParallel_106 (by decide) ?_
        replace hf := gB2_e hf
        obtain ⟨x42, w41, ew41, hf⟩ := hf
        refine j_callV (As := [(gi x20), (gi x21), (gi (nI 3))]) (rest := []) (v := (some (gi x42))) C (by omega) (kt_X2_comesTo hinj (by omega) ew41) (tw_cls hinj) rfl q1844 q1846 qs68 q93 q1847 ⟨rfl, hd_X2_comesTo⟩ (by decide) rfl (Nat.le_of_ble_eq_true rfl) dX2_looksAtParallel_107 ?_
        obtain ⟨rfl, rfl⟩ := gSome hf
        exact j_iret C hr hw dX2_looksAtParallel_110
    · replace hf := gIf_f hf c24
      refine j_aload_n C dX2_looksAtParallel_27 rfl ?_
      refine j_get (v := (ga (some (ad 5)))) C fl_X2_22_2 dX2_looksAtParallel_28 (tw_F hinj rfl) ?_
      refine j_iload_n C dX2_looksAtParallel_31 rfl ?_
      refine j_iload_n C dX2_looksAtParallel_32 rfl ?_
      refine j_iconst (v := (nI 0)) C dX2_looksAtParallel_33 (by decide) ?_
      replace hf := gB2_e hf
      obtain ⟨x44, w43, ew43, hf⟩ := hf
      refine j_callS (As := [(gi x20), (gi x22), (gi (nI 0))]) (rest := [(ga (some (ad 5)))]) (v := (some (gi x44))) C (by omega) (kt_X2_at hinj (by omega) ew43) q1801 q1802 q93 q1803 hd_X2_at (by decide) rfl (Nat.le_of_ble_eq_true rfl) dX2_looksAtParallel_34 ?_
      replace hf := gB1_e hf
      obtain ⟨x45, ex45, hf⟩ := hf
      refine j_iald C (tw_ld hinj ex45) dX2_looksAtParallel_37 ?_
      refine j_iconst (v := (nI 1)) C dX2_looksAtParallel_38 (by decide) ?_
      replace hf := gBd_x hf
      obtain ⟨k46, ek46, hf⟩ := hf
      have jk46 : ∀ (x48 : Int32) (x49 : Int32) (x50 : Int32) (x51 : Int32) (w47 : TS), k46 x48 x49 x50 x51 w47 = some (rr, ww) → gJ D dA A K p l e R s m args below meth c (gEnd D dA A K below args s (twOf wb ad w0) (some (gi rr)) (twOf wb ad ww)) 5 52 [(0, (ga (some (ad 0)))), (1, (gi x48)), (2, (gi x49)), (3, (gi x50))] [(gi x51)] (twOf wb ad w47) := by
        intro x48 x49 x50 x51 w47 hf
        rw [ek46] at hf
        dsimp only at hf
        refine j_istore (lv' := [(4, (gi x51)), (0, (ga (some (ad 0)))), (1, (gi x48)), (2, (gi x49)), (3, (gi x50))]) C dX2_looksAtParallel_52 (by decide) rfl ?_
        refine j_aload_n C dX2_looksAtParallel_54 rfl ?_
        refine j_iload_n C dX2_looksAtParallel_55 rfl ?_
        refine j_iload_n C dX2_looksAtParallel_56 rfl ?_
        refine j_bipush (v := (nI 6)) C dX2_looksAtParallel_57 (by decide) ?_
        replace hf := gB2_e hf
        obtain ⟨x53, w52, ew52, hf⟩ := hf
        refine j_callV (As := [(gi x48), (gi x50), (gi (nI 6))]) (rest := []) (v := (some (gi x53))) C (by omega) (kt_X2_nodePart hinj (by omega) ew52) (tw_cls hinj) rfl q1812 q1814 qs60 q93 q1815 ⟨rfl, hd_X2_nodePart⟩ (by decide) rfl (Nat.le_of_ble_eq_true rfl) dX2_looksAtParallel_59 ?_
        refine j_istore_n (lv' := [(3, (gi x53)), (4, (gi x51)), (0, (ga (some (ad 0)))), (1, (gi x48)), (2, (gi x49))]) C dX2_looksAtParallel_62 (by decide) rfl ?_
        refine j_goto (tgt := 23) C dX2_looksAtParallel_63 (by decide) ?_
        refine j_sub (lv' := [(0, (ga (some (ad 0)))), (1, (gi x48)), (2, (gi x49)), (3, (gi x53))]) (gL_cons rfl (gL_cons rfl (gL_cons rfl (gL_cons rfl (gL_nil))))) ?_
        exact jk23 _ _ _ _ hf
      clear ek46
      refine j_icmp_ne (tgt := 51) C dX2_looksAtParallel_39 (by decide) (fun c54 => ?_) (fun c54 => ?_)
      · replace hf := gIf_f hf c54
        refine j_iconst (v := (nI 0)) C dX2_looksAtParallel_51 (by decide) ?_
        exact jk46 _ _ _ _ _ hf
      · replace hf := gIf_t hf c54
        refine j_aload_n C dX2_looksAtParallel_42 rfl ?_
        refine j_iload_n C dX2_looksAtParallel_43 rfl ?_
        refine j_iload_n C dX2_looksAtParallel_44 rfl ?_
        replace hf := gB2_e hf
        obtain ⟨x56, w55, ew55, hf⟩ := hf
        refine j_callV (As := [(gi x20), (gi x22)]) (rest := []) (v := (some (gi x56))) C (by omega) (hrec (by omega) ew55) (tw_cls hinj) rfl q1808 q1810 qs59 q93 q1811 ⟨rfl, hd_X2_looksAtBody⟩ (by decide) rfl (Nat.le_of_ble_eq_true rfl) dX2_looksAtParallel_45 ?_
        refine j_goto (tgt := 52) C dX2_looksAtParallel_48 (by decide) ?_
        exact jk46 _ _ _ _ _ hf
def dkwX2_looks_5 : List UInt8 := [5, 184, 0, 169, 46, 182, 0, 196, 182, 0, 184, 172, 42, 27, 28, 182, 0, 199, 172]
abbrev dktX2_looks_5 : List UInt8 := dkwX2_looks_5 ++ []
def dkwX2_looks_4 : List UInt8 := [27, 28, 182, 0, 190, 172, 42, 27, 28, 182, 0, 193, 172, 42, 27, 28, 42, 27, 42, 180, 0, 22, 27, 28]
abbrev dktX2_looks_4 : List UInt8 := dkwX2_looks_4 ++ dktX2_looks_5
def dkwX2_looks_3 : List UInt8 := [42, 27, 28, 4, 182, 0, 171, 96, 161, 0, 13, 42, 27, 28, 5, 182, 0, 184, 167, 0, 4, 4, 172, 42]
abbrev dktX2_looks_3 : List UInt8 := dkwX2_looks_3 ++ dktX2_looks_4
def dkwX2_looks_2 : List UInt8 := [42, 27, 28, 182, 0, 187, 172, 42, 180, 0, 22, 3, 46, 42, 180, 0, 22, 27, 28, 4, 184, 0, 169, 46]
abbrev dktX2_looks_2 : List UInt8 := dkwX2_looks_2 ++ dktX2_looks_3
def dkwX2_looks_1 : List UInt8 := [170, 0, 0, 0, 117, 0, 0, 0, 1, 0, 0, 0, 5, 0, 0, 0, 33, 0, 0, 0, 40, 0, 0, 0, 80, 0, 0, 0, 87, 0, 0, 0, 94]
abbrev dktX2_looks_1 : List UInt8 := dkwX2_looks_1 ++ dktX2_looks_2
def dkwX2_looks_0 : List UInt8 := [42, 27, 28, 3, 182, 0, 171]
abbrev dktX2_looks_0 : List UInt8 := dkwX2_looks_0 ++ dktX2_looks_1
theorem dksX2_looks_0 : cX2_looks.data.toList.drop 0 = dktX2_looks_0 := by decide +kernel
theorem dksX2_looks_1 : cX2_looks.data.toList.drop 7 = dktX2_looks_1 := dk_seg dksX2_looks_0 7 rfl rfl
theorem dksX2_looks_2 : cX2_looks.data.toList.drop 40 = dktX2_looks_2 := dk_seg dksX2_looks_1 33 rfl rfl
theorem dksX2_looks_3 : cX2_looks.data.toList.drop 64 = dktX2_looks_3 := dk_seg dksX2_looks_2 24 rfl rfl
theorem dksX2_looks_4 : cX2_looks.data.toList.drop 88 = dktX2_looks_4 := dk_seg dksX2_looks_3 24 rfl rfl
theorem dksX2_looks_5 : cX2_looks.data.toList.drop 112 = dktX2_looks_5 := dk_seg dksX2_looks_4 24 rfl rfl
theorem dX2_looks_0 : decode cX2_looks 0 = .ok (.aload_n 0, 1) := dk_42 (dk_at dksX2_looks_0 0 rfl rfl)
theorem dX2_looks_1 : decode cX2_looks 1 = .ok (.iload_n 1, 1) := dk_27 (dk_at dksX2_looks_0 1 rfl rfl)
theorem dX2_looks_2 : decode cX2_looks 2 = .ok (.iload_n 2, 1) := dk_28 (dk_at dksX2_looks_0 2 rfl rfl)
theorem dX2_looks_3 : decode cX2_looks 3 = .ok (.iconst 0, 1) := dk_3 (dk_at dksX2_looks_0 3 rfl rfl)
theorem dX2_looks_4 : decode cX2_looks 4 = .ok (.invokevirtual 171, 3) := dk_182 0 171 (dk_at dksX2_looks_0 4 rfl rfl)
theorem dX2_looks_7 : decode cX2_looks 7 = .ok (.tableswitch 117 1 5 #[33, 40, 80, 87, 94], 33) := by decide +kernel
theorem dX2_looks_40 : decode cX2_looks 40 = .ok (.aload_n 0, 1) := dk_42 (dk_at dksX2_looks_2 0 rfl rfl)
theorem dX2_looks_41 : decode cX2_looks 41 = .ok (.iload_n 1, 1) := dk_27 (dk_at dksX2_looks_2 1 rfl rfl)
theorem dX2_looks_42 : decode cX2_looks 42 = .ok (.iload_n 2, 1) := dk_28 (dk_at dksX2_looks_2 2 rfl rfl)
theorem dX2_looks_43 : decode cX2_looks 43 = .ok (.invokevirtual 187, 3) := dk_182 0 187 (dk_at dksX2_looks_2 3 rfl rfl)
theorem dX2_looks_46 : decode cX2_looks 46 = .ok (.ireturn, 1) := dk_172 (dk_at dksX2_looks_2 6 rfl rfl)
theorem dX2_looks_47 : decode cX2_looks 47 = .ok (.aload_n 0, 1) := dk_42 (dk_at dksX2_looks_2 7 rfl rfl)
theorem dX2_looks_48 : decode cX2_looks 48 = .ok (.getfield 22, 3) := dk_180 0 22 (dk_at dksX2_looks_2 8 rfl rfl)
theorem dX2_looks_51 : decode cX2_looks 51 = .ok (.iconst 0, 1) := dk_3 (dk_at dksX2_looks_2 11 rfl rfl)
theorem dX2_looks_52 : decode cX2_looks 52 = .ok (.iaload, 1) := dk_46 (dk_at dksX2_looks_2 12 rfl rfl)
theorem dX2_looks_53 : decode cX2_looks 53 = .ok (.aload_n 0, 1) := dk_42 (dk_at dksX2_looks_2 13 rfl rfl)
theorem dX2_looks_54 : decode cX2_looks 54 = .ok (.getfield 22, 3) := dk_180 0 22 (dk_at dksX2_looks_2 14 rfl rfl)
theorem dX2_looks_57 : decode cX2_looks 57 = .ok (.iload_n 1, 1) := dk_27 (dk_at dksX2_looks_2 17 rfl rfl)
theorem dX2_looks_58 : decode cX2_looks 58 = .ok (.iload_n 2, 1) := dk_28 (dk_at dksX2_looks_2 18 rfl rfl)
theorem dX2_looks_59 : decode cX2_looks 59 = .ok (.iconst 1, 1) := dk_4 (dk_at dksX2_looks_2 19 rfl rfl)
theorem dX2_looks_60 : decode cX2_looks 60 = .ok (.invokestatic 169, 3) := dk_184 0 169 (dk_at dksX2_looks_2 20 rfl rfl)
theorem dX2_looks_63 : decode cX2_looks 63 = .ok (.iaload, 1) := dk_46 (dk_at dksX2_looks_2 23 rfl rfl)
theorem dX2_looks_64 : decode cX2_looks 64 = .ok (.aload_n 0, 1) := dk_42 (dk_at dksX2_looks_3 0 rfl rfl)
theorem dX2_looks_65 : decode cX2_looks 65 = .ok (.iload_n 1, 1) := dk_27 (dk_at dksX2_looks_3 1 rfl rfl)
theorem dX2_looks_66 : decode cX2_looks 66 = .ok (.iload_n 2, 1) := dk_28 (dk_at dksX2_looks_3 2 rfl rfl)
theorem dX2_looks_67 : decode cX2_looks 67 = .ok (.iconst 1, 1) := dk_4 (dk_at dksX2_looks_3 3 rfl rfl)
theorem dX2_looks_68 : decode cX2_looks 68 = .ok (.invokevirtual 171, 3) := dk_182 0 171 (dk_at dksX2_looks_3 4 rfl rfl)
theorem dX2_looks_71 : decode cX2_looks 71 = .ok (.iadd, 1) := dk_96 (dk_at dksX2_looks_3 7 rfl rfl)
theorem dX2_looks_72 : decode cX2_looks 72 = .ok (.if_icmp .lt 13, 3) := dk_161 0 13 (dk_at dksX2_looks_3 8 rfl rfl)
theorem dX2_looks_75 : decode cX2_looks 75 = .ok (.aload_n 0, 1) := dk_42 (dk_at dksX2_looks_3 11 rfl rfl)
theorem dX2_looks_76 : decode cX2_looks 76 = .ok (.iload_n 1, 1) := dk_27 (dk_at dksX2_looks_3 12 rfl rfl)
theorem dX2_looks_77 : decode cX2_looks 77 = .ok (.iload_n 2, 1) := dk_28 (dk_at dksX2_looks_3 13 rfl rfl)
theorem dX2_looks_78 : decode cX2_looks 78 = .ok (.iconst 2, 1) := dk_5 (dk_at dksX2_looks_3 14 rfl rfl)
theorem dX2_looks_79 : decode cX2_looks 79 = .ok (.invokevirtual 184, 3) := dk_182 0 184 (dk_at dksX2_looks_3 15 rfl rfl)
theorem dX2_looks_82 : decode cX2_looks 82 = .ok (.goto 4, 3) := dk_167 0 4 (dk_at dksX2_looks_3 18 rfl rfl)
theorem dX2_looks_85 : decode cX2_looks 85 = .ok (.iconst 1, 1) := dk_4 (dk_at dksX2_looks_3 21 rfl rfl)
theorem dX2_looks_86 : decode cX2_looks 86 = .ok (.ireturn, 1) := dk_172 (dk_at dksX2_looks_3 22 rfl rfl)
theorem dX2_looks_87 : decode cX2_looks 87 = .ok (.aload_n 0, 1) := dk_42 (dk_at dksX2_looks_3 23 rfl rfl)
theorem dX2_looks_88 : decode cX2_looks 88 = .ok (.iload_n 1, 1) := dk_27 (dk_at dksX2_looks_4 0 rfl rfl)
theorem dX2_looks_89 : decode cX2_looks 89 = .ok (.iload_n 2, 1) := dk_28 (dk_at dksX2_looks_4 1 rfl rfl)
theorem dX2_looks_90 : decode cX2_looks 90 = .ok (.invokevirtual 190, 3) := dk_182 0 190 (dk_at dksX2_looks_4 2 rfl rfl)
theorem dX2_looks_93 : decode cX2_looks 93 = .ok (.ireturn, 1) := dk_172 (dk_at dksX2_looks_4 5 rfl rfl)
theorem dX2_looks_94 : decode cX2_looks 94 = .ok (.aload_n 0, 1) := dk_42 (dk_at dksX2_looks_4 6 rfl rfl)
theorem dX2_looks_95 : decode cX2_looks 95 = .ok (.iload_n 1, 1) := dk_27 (dk_at dksX2_looks_4 7 rfl rfl)
theorem dX2_looks_96 : decode cX2_looks 96 = .ok (.iload_n 2, 1) := dk_28 (dk_at dksX2_looks_4 8 rfl rfl)
theorem dX2_looks_97 : decode cX2_looks 97 = .ok (.invokevirtual 193, 3) := dk_182 0 193 (dk_at dksX2_looks_4 9 rfl rfl)
theorem dX2_looks_100 : decode cX2_looks 100 = .ok (.ireturn, 1) := dk_172 (dk_at dksX2_looks_4 12 rfl rfl)
theorem dX2_looks_101 : decode cX2_looks 101 = .ok (.aload_n 0, 1) := dk_42 (dk_at dksX2_looks_4 13 rfl rfl)
theorem dX2_looks_102 : decode cX2_looks 102 = .ok (.iload_n 1, 1) := dk_27 (dk_at dksX2_looks_4 14 rfl rfl)
theorem dX2_looks_103 : decode cX2_looks 103 = .ok (.iload_n 2, 1) := dk_28 (dk_at dksX2_looks_4 15 rfl rfl)
theorem dX2_looks_104 : decode cX2_looks 104 = .ok (.aload_n 0, 1) := dk_42 (dk_at dksX2_looks_4 16 rfl rfl)
theorem dX2_looks_105 : decode cX2_looks 105 = .ok (.iload_n 1, 1) := dk_27 (dk_at dksX2_looks_4 17 rfl rfl)
theorem dX2_looks_106 : decode cX2_looks 106 = .ok (.aload_n 0, 1) := dk_42 (dk_at dksX2_looks_4 18 rfl rfl)
theorem dX2_looks_107 : decode cX2_looks 107 = .ok (.getfield 22, 3) := dk_180 0 22 (dk_at dksX2_looks_4 19 rfl rfl)
theorem dX2_looks_110 : decode cX2_looks 110 = .ok (.iload_n 1, 1) := dk_27 (dk_at dksX2_looks_4 22 rfl rfl)
theorem dX2_looks_111 : decode cX2_looks 111 = .ok (.iload_n 2, 1) := dk_28 (dk_at dksX2_looks_4 23 rfl rfl)
theorem dX2_looks_112 : decode cX2_looks 112 = .ok (.iconst 2, 1) := dk_5 (dk_at dksX2_looks_5 0 rfl rfl)
theorem dX2_looks_113 : decode cX2_looks 113 = .ok (.invokestatic 169, 3) := dk_184 0 169 (dk_at dksX2_looks_5 1 rfl rfl)
theorem dX2_looks_116 : decode cX2_looks 116 = .ok (.iaload, 1) := dk_46 (dk_at dksX2_looks_5 4 rfl rfl)
theorem dX2_looks_117 : decode cX2_looks 117 = .ok (.invokevirtual 196, 3) := dk_182 0 196 (dk_at dksX2_looks_5 5 rfl rfl)
theorem dX2_looks_120 : decode cX2_looks 120 = .ok (.invokevirtual 184, 3) := dk_182 0 184 (dk_at dksX2_looks_5 8 rfl rfl)
theorem dX2_looks_123 : decode cX2_looks 123 = .ok (.ireturn, 1) := dk_172 (dk_at dksX2_looks_5 11 rfl rfl)
theorem dX2_looks_124 : decode cX2_looks 124 = .ok (.aload_n 0, 1) := dk_42 (dk_at dksX2_looks_5 12 rfl rfl)
theorem dX2_looks_125 : decode cX2_looks 125 = .ok (.iload_n 1, 1) := dk_27 (dk_at dksX2_looks_5 13 rfl rfl)
theorem dX2_looks_126 : decode cX2_looks 126 = .ok (.iload_n 2, 1) := dk_28 (dk_at dksX2_looks_5 14 rfl rfl)
theorem dX2_looks_127 : decode cX2_looks 127 = .ok (.invokevirtual 199, 3) := dk_182 0 199 (dk_at dksX2_looks_5 15 rfl rfl)
theorem dX2_looks_130 : decode cX2_looks 130 = .ok (.ireturn, 1) := dk_172 (dk_at dksX2_looks_5 18 rfl rfl)
theorem hd_X2_looksAtTask : (yX2_looksAtTask.cls ≠ "java/lang/invoke/MethodHandle" ∧ yX2_looksAtTask.cls ≠ "java/lang/invoke/VarHandle" ∧ (parseMethodDescriptor yX2_looksAtTask.desc).map (fun d => d.parameters.length) = some 2) := ⟨by decide +kernel, by decide +kernel, by decide +kernel⟩
theorem hd_X2_looksAtSignal : (yX2_looksAtSignal.cls ≠ "java/lang/invoke/MethodHandle" ∧ yX2_looksAtSignal.cls ≠ "java/lang/invoke/VarHandle" ∧ (parseMethodDescriptor yX2_looksAtSignal.desc).map (fun d => d.parameters.length) = some 2) := ⟨by decide +kernel, by decide +kernel, by decide +kernel⟩
theorem hd_X2_sets : (yX2_sets.cls ≠ "java/lang/invoke/MethodHandle" ∧ yX2_sets.cls ≠ "java/lang/invoke/VarHandle" ∧ (parseMethodDescriptor yX2_sets.desc).map (fun d => d.parameters.length) = some 2) := ⟨by decide +kernel, by decide +kernel, by decide +kernel⟩
theorem hd_X2_looksAtParallel : (yX2_looksAtParallel.cls ≠ "java/lang/invoke/MethodHandle" ∧ yX2_looksAtParallel.cls ≠ "java/lang/invoke/VarHandle" ∧ (parseMethodDescriptor yX2_looksAtParallel.desc).map (fun d => d.parameters.length) = some 2) := ⟨by decide +kernel, by decide +kernel, by decide +kernel⟩
def t_X2_looks (rec : Int32 → Int32 → TS → Option (Int32 × TS)) (p1 : Int32) (p2 : Int32) (w0 : TS) : Option (Int32 × TS) := gB2 (t_X2_nodePart p1 p2 (nI 0) w0) fun x2 w1 => if x2 = (nI 1) then gB2 (t_X2_looksAtTask p1 p2 w1) fun x4 w3 => some (x4, w3) else if x2 = (nI 2) then gB1 (tLd w1 5 (nI 0)) fun x5 => gB2 (t_X2_at p1 p2 (nI 1) w1) fun x7 w6 => gB1 (tLd w6 5 x7) fun x8 => gB2 (t_X2_nodePart p1 p2 (nI 1) w6) fun x10 w9 => if x5 < (x8 + x10) then some ((nI 1), w9) else gB2 (t_X2_comesTo p1 p2 (nI 2) w9) fun x13 w12 => some (x13, w12) else if x2 = (nI 3) then gB2 (t_X2_looksAtSignal p1 p2 w1) fun x15 w14 => some (x15, w14) else if x2 = (nI 4) then gB2 (t_X2_sets p1 p2 w1) fun x17 w16 => some (x17, w16) else if x2 = (nI 5) then gB2 (t_X2_at p1 p2 (nI 2) w1) fun x19 w18 => gB1 (tLd w18 5 x19) fun x20 => gB2 (rec p1 x20 w18) fun x22 w21 => gB2 (t_X2_comesTo p1 p2 x22 w21) fun x24 w23 => some (x24, w23) else gB2 (t_X2_looksAtParallel rec p1 p2 w1) fun x26 w25 => some (x26, w25)
set_option maxHeartbeats 4000000 in
set_option maxRecDepth 100000 in
theorem kt_X2_looks {D : va_G} {dA : Nat → ClassId} {A : Nat → Prop} {K : Nat → Nat} {l : Launch} {wb : gw} {ad : Nat → Nat} (hinj : tInj ad) {h : Nat} {rec : Int32 → Int32 → TS → Option (Int32 × TS)} {B : Nat} (hrec : ∀ {h : Nat}, B ≤ h → ∀ {p1 : Int32} {p2 : Int32} {w0 ww : TS} {rr : Int32}, rec p1 p2 w0 = some (rr, ww) → gMet D dA A K l yX2_looksAtBody (ws_ yX2_looksAtBody cX2_looksAtBody 5 (some .int)) h [(ga (some (ad 0))), (gi p1), (gi p2)] (some (gi rr)) (twOf wb ad w0) (twOf wb ad ww)) (hb : 17 ≤ B) (hh : B + 2 ≤ h) {p1 : Int32} {p2 : Int32} {w0 ww : TS} {rr : Int32} (hf : t_X2_looks rec p1 p2 w0 = some (rr, ww)) : gMet D dA A K l yX2_looks (ws_ yX2_looks cX2_looks 3 (some .int)) h [(ga (some (ad 0))), (gi p1), (gi p2)] (some (gi rr)) (twOf wb ad w0) (twOf wb ad ww) := by
  refine j_start (own := RX2) (by decide +kernel) rfl (Nat.le_of_ble_eq_true rfl) ?_
  intro p e R s m args below meth c C hr hin hw
  unfold t_X2_looks at hf
  show gJ D dA A K p l e R s m args below meth c (gEnd D dA A K below args s (twOf wb ad w0) (some (gi rr)) (twOf wb ad ww)) 3 0 [(0, (ga (some (ad 0)))), (1, (gi p1)), (2, (gi p2))] [] (twOf wb ad w0)
  refine j_aload_n C dX2_looks_0 rfl ?_
  refine j_iload_n C dX2_looks_1 rfl ?_
  refine j_iload_n C dX2_looks_2 rfl ?_
  refine j_iconst (v := (nI 0)) C dX2_looks_3 (by decide) ?_
  replace hf := gB2_e hf
  obtain ⟨x2, w1, ew1, hf⟩ := hf
  refine j_callV (As := [(gi p1), (gi p2), (gi (nI 0))]) (rest := []) (v := (some (gi x2))) C (by omega) (kt_X2_nodePart hinj (by omega) ew1) (tw_cls hinj) rfl q1812 q1814 qs60 q93 q1815 ⟨rfl, hd_X2_nodePart⟩ (by decide) rfl (Nat.le_of_ble_eq_true rfl) dX2_looks_4 ?_
  by_cases n7_0 : x2 = (nI 1)
  · replace hf := gIf_t hf n7_0
    refine j_tableIn (off := 33) (tgt := 40) C dX2_looks_7 (by rw [n7_0]; decide) (by rw [n7_0]; decide) (by rw [n7_0]; decide) (by decide) ?_
    refine j_aload_n C dX2_looks_40 rfl ?_
    refine j_iload_n C dX2_looks_41 rfl ?_
    refine j_iload_n C dX2_looks_42 rfl ?_
    replace hf := gB2_e hf
    obtain ⟨x4, w3, ew3, hf⟩ := hf
    refine j_callV (As := [(gi p1), (gi p2)]) (rest := []) (v := (some (gi x4))) C (by omega) (kt_X2_looksAtTask hinj (by omega) ew3) (tw_cls hinj) rfl q1836 q1838 qs66 q93 q1839 ⟨rfl, hd_X2_looksAtTask⟩ (by decide) rfl (Nat.le_of_ble_eq_true rfl) dX2_looks_43 ?_
    obtain ⟨rfl, rfl⟩ := gSome hf
    exact j_iret C hr hw dX2_looks_46
  · replace hf := gIf_f hf n7_0
    by_cases n7_1 : x2 = (nI 2)
    · replace hf := gIf_t hf n7_1
      refine j_tableIn (off := 40) (tgt := 47) C dX2_looks_7 (by rw [n7_1]; decide) (by rw [n7_1]; decide) (by rw [n7_1]; decide) (by decide) ?_
      refine j_aload_n C dX2_looks_47 rfl ?_
      refine j_get (v := (ga (some (ad 5)))) C fl_X2_22_2 dX2_looks_48 (tw_F hinj rfl) ?_
      refine j_iconst (v := (nI 0)) C dX2_looks_51 (by decide) ?_
      replace hf := gB1_e hf
      obtain ⟨x5, ex5, hf⟩ := hf
      refine j_iald C (tw_ld hinj ex5) dX2_looks_52 ?_
      refine j_aload_n C dX2_looks_53 rfl ?_
      refine j_get (v := (ga (some (ad 5)))) C fl_X2_22_2 dX2_looks_54 (tw_F hinj rfl) ?_
      refine j_iload_n C dX2_looks_57 rfl ?_
      refine j_iload_n C dX2_looks_58 rfl ?_
      refine j_iconst (v := (nI 1)) C dX2_looks_59 (by decide) ?_
      replace hf := gB2_e hf
      obtain ⟨x7, w6, ew6, hf⟩ := hf
      refine j_callS (As := [(gi p1), (gi p2), (gi (nI 1))]) (rest := [(ga (some (ad 5))), (gi x5)]) (v := (some (gi x7))) C (by omega) (kt_X2_at hinj (by omega) ew6) q1801 q1802 q93 q1803 hd_X2_at (by decide) rfl (Nat.le_of_ble_eq_true rfl) dX2_looks_60 ?_
      replace hf := gB1_e hf
      obtain ⟨x8, ex8, hf⟩ := hf
      refine j_iald C (tw_ld hinj ex8) dX2_looks_63 ?_
      refine j_aload_n C dX2_looks_64 rfl ?_
      refine j_iload_n C dX2_looks_65 rfl ?_
      refine j_iload_n C dX2_looks_66 rfl ?_
      refine j_iconst (v := (nI 1)) C dX2_looks_67 (by decide) ?_
      replace hf := gB2_e hf
      obtain ⟨x10, w9, ew9, hf⟩ := hf
      refine j_callV (As := [(gi p1), (gi p2), (gi (nI 1))]) (rest := [(gi x8), (gi x5)]) (v := (some (gi x10))) C (by omega) (kt_X2_nodePart hinj (by omega) ew9) (tw_cls hinj) rfl q1812 q1814 qs60 q93 q1815 ⟨rfl, hd_X2_nodePart⟩ (by decide) rfl (Nat.le_of_ble_eq_true rfl) dX2_looks_68 ?_
      refine j_iadd C dX2_looks_71 ?_
      refine j_icmp_lt (tgt := 85) C dX2_looks_72 (by decide) (fun c11 => ?_) (fun c11 => ?_)
      · replace hf := gIf_t hf c11
        refine j_iconst (v := (nI 1)) C dX2_looks_85 (by decide) ?_
        obtain ⟨rfl, rfl⟩ := gSome hf
        exact j_iret C hr hw dX2_looks_86
      · replace hf := gIf_f hf c11
        refine j_aload_n C dX2_looks_75 rfl ?_
        refine j_iload_n C dX2_looks_76 rfl ?_
        refine j_iload_n C dX2_looks_77 rfl ?_
        refine j_iconst (v := (nI 2)) C dX2_looks_78 (by decide) ?_
        replace hf := gB2_e hf
        obtain ⟨x13, w12, ew12, hf⟩ := hf
        refine j_callV (As := [(gi p1), (gi p2), (gi (nI 2))]) (rest := []) (v := (some (gi x13))) C (by omega) (kt_X2_comesTo hinj (by omega) ew12) (tw_cls hinj) rfl q1844 q1846 qs68 q93 q1847 ⟨rfl, hd_X2_comesTo⟩ (by decide) rfl (Nat.le_of_ble_eq_true rfl) dX2_looks_79 ?_
        refine j_goto (tgt := 86) C dX2_looks_82 (by decide) ?_
        obtain ⟨rfl, rfl⟩ := gSome hf
        exact j_iret C hr hw dX2_looks_86
    · replace hf := gIf_f hf n7_1
      by_cases n7_2 : x2 = (nI 3)
      · replace hf := gIf_t hf n7_2
        refine j_tableIn (off := 80) (tgt := 87) C dX2_looks_7 (by rw [n7_2]; decide) (by rw [n7_2]; decide) (by rw [n7_2]; decide) (by decide) ?_
        refine j_aload_n C dX2_looks_87 rfl ?_
        refine j_iload_n C dX2_looks_88 rfl ?_
        refine j_iload_n C dX2_looks_89 rfl ?_
        replace hf := gB2_e hf
        obtain ⟨x15, w14, ew14, hf⟩ := hf
        refine j_callV (As := [(gi p1), (gi p2)]) (rest := []) (v := (some (gi x15))) C (by omega) (kt_X2_looksAtSignal hinj (by omega) ew14) (tw_cls hinj) rfl q1848 q1850 qs69 q93 q1851 ⟨rfl, hd_X2_looksAtSignal⟩ (by decide) rfl (Nat.le_of_ble_eq_true rfl) dX2_looks_90 ?_
        obtain ⟨rfl, rfl⟩ := gSome hf
        exact j_iret C hr hw dX2_looks_93
      · replace hf := gIf_f hf n7_2
        by_cases n7_3 : x2 = (nI 4)
        · replace hf := gIf_t hf n7_3
          refine j_tableIn (off := 87) (tgt := 94) C dX2_looks_7 (by rw [n7_3]; decide) (by rw [n7_3]; decide) (by rw [n7_3]; decide) (by decide) ?_
          refine j_aload_n C dX2_looks_94 rfl ?_
          refine j_iload_n C dX2_looks_95 rfl ?_
          refine j_iload_n C dX2_looks_96 rfl ?_
          replace hf := gB2_e hf
          obtain ⟨x17, w16, ew16, hf⟩ := hf
          refine j_callV (As := [(gi p1), (gi p2)]) (rest := []) (v := (some (gi x17))) C (by omega) (kt_X2_sets hinj (by omega) ew16) (tw_cls hinj) rfl q1852 q1854 qs70 q93 q1855 ⟨rfl, hd_X2_sets⟩ (by decide) rfl (Nat.le_of_ble_eq_true rfl) dX2_looks_97 ?_
          obtain ⟨rfl, rfl⟩ := gSome hf
          exact j_iret C hr hw dX2_looks_100
        · replace hf := gIf_f hf n7_3
          by_cases n7_4 : x2 = (nI 5)
          · replace hf := gIf_t hf n7_4
            refine j_tableIn (off := 94) (tgt := 101) C dX2_looks_7 (by rw [n7_4]; decide) (by rw [n7_4]; decide) (by rw [n7_4]; decide) (by decide) ?_
            refine j_aload_n C dX2_looks_101 rfl ?_
            refine j_iload_n C dX2_looks_102 rfl ?_
            refine j_iload_n C dX2_looks_103 rfl ?_
            refine j_aload_n C dX2_looks_104 rfl ?_
            refine j_iload_n C dX2_looks_105 rfl ?_
            refine j_aload_n C dX2_looks_106 rfl ?_
            refine j_get (v := (ga (some (ad 5)))) C fl_X2_22_2 dX2_looks_107 (tw_F hinj rfl) ?_
            refine j_iload_n C dX2_looks_110 rfl ?_
            refine j_iload_n C dX2_looks_111 rfl ?_
            refine j_iconst (v := (nI 2)) C dX2_looks_112 (by decide) ?_
            replace hf := gB2_e hf
            obtain ⟨x19, w18, ew18, hf⟩ := hf
            refine j_callS (As := [(gi p1), (gi p2), (gi (nI 2))]) (rest := [(ga (some (ad 5))), (gi p1), (ga (some (ad 0))), (gi p2), (gi p1), (ga (some (ad 0)))]) (v := (some (gi x19))) C (by omega) (kt_X2_at hinj (by omega) ew18) q1801 q1802 q93 q1803 hd_X2_at (by decide) rfl (Nat.le_of_ble_eq_true rfl) dX2_looks_113 ?_
            replace hf := gB1_e hf
            obtain ⟨x20, ex20, hf⟩ := hf
            refine j_iald C (tw_ld hinj ex20) dX2_looks_116 ?_
            replace hf := gB2_e hf
            obtain ⟨x22, w21, ew21, hf⟩ := hf
            refine j_callV (As := [(gi p1), (gi x20)]) (rest := [(gi p2), (gi p1), (ga (some (ad 0)))]) (v := (some (gi x22))) C (by omega) (hrec (by omega) ew21) (tw_cls hinj) rfl q1808 q1810 qs59 q93 q1811 ⟨rfl, hd_X2_looksAtBody⟩ (by decide) rfl (Nat.le_of_ble_eq_true rfl) dX2_looks_117 ?_
            replace hf := gB2_e hf
            obtain ⟨x24, w23, ew23, hf⟩ := hf
            refine j_callV (As := [(gi p1), (gi p2), (gi x22)]) (rest := []) (v := (some (gi x24))) C (by omega) (kt_X2_comesTo hinj (by omega) ew23) (tw_cls hinj) rfl q1844 q1846 qs68 q93 q1847 ⟨rfl, hd_X2_comesTo⟩ (by decide) rfl (Nat.le_of_ble_eq_true rfl) dX2_looks_120 ?_
            obtain ⟨rfl, rfl⟩ := gSome hf
            exact j_iret C hr hw dX2_looks_123
          · replace hf := gIf_f hf n7_4
            refine j_tableOut (tgt := 124) C dX2_looks_7 (g_out5 (a := 1) (by decide) n7_0 n7_1 n7_2 n7_3 n7_4) (by decide) ?_
            refine j_aload_n C dX2_looks_124 rfl ?_
            refine j_iload_n C dX2_looks_125 rfl ?_
            refine j_iload_n C dX2_looks_126 rfl ?_
            replace hf := gB2_e hf
            obtain ⟨x26, w25, ew25, hf⟩ := hf
            refine j_callV (As := [(gi p1), (gi p2)]) (rest := []) (v := (some (gi x26))) C (by omega) (kt_X2_looksAtParallel hinj hrec hb (by omega) ew25) (tw_cls hinj) rfl q1856 q1858 qs71 q93 q1859 ⟨rfl, hd_X2_looksAtParallel⟩ (by decide) rfl (Nat.le_of_ble_eq_true rfl) dX2_looks_127 ?_
            obtain ⟨rfl, rfl⟩ := gSome hf
            exact j_iret C hr hw dX2_looks_130
def dkwX2_begins_7 : List UInt8 := [16, 6, 182, 0, 171, 54, 4, 167, 255, 231, 42, 27, 28, 182, 0, 202, 172]
abbrev dktX2_begins_7 : List UInt8 := dkwX2_begins_7 ++ []
def dkwX2_begins_6 : List UInt8 := [182, 0, 171, 54, 4, 21, 4, 155, 0, 26, 42, 27, 21, 4, 182, 0, 196, 54, 5, 42, 27, 21, 4]
abbrev dktX2_begins_6 : List UInt8 := dkwX2_begins_6 ++ dktX2_begins_7
def dkwX2_begins_5 : List UInt8 := [167, 0, 12, 42, 27, 21, 4, 16, 6, 182, 0, 171, 79, 29, 16, 6, 160, 0, 40, 42, 27, 28, 8]
abbrev dktX2_begins_5 : List UInt8 := dkwX2_begins_5 ++ dktX2_begins_6
def dkwX2_begins_4 : List UInt8 := [167, 0, 4, 3, 54, 5, 42, 180, 0, 22, 27, 28, 5, 184, 0, 169, 21, 5, 153, 0, 8, 21, 4]
abbrev dktX2_begins_4 : List UInt8 := dkwX2_begins_4 ++ dktX2_begins_5
def dkwX2_begins_3 : List UInt8 := [42, 27, 28, 4, 182, 0, 171, 96, 184, 0, 163, 46, 42, 27, 28, 5, 182, 0, 171, 162, 0, 7, 4]
abbrev dktX2_begins_3 : List UInt8 := dkwX2_begins_3 ++ dktX2_begins_4
def dkwX2_begins_2 : List UInt8 := [182, 0, 177, 29, 8, 160, 0, 78, 42, 27, 28, 8, 182, 0, 171, 54, 4, 42, 180, 0, 22, 27, 16, 10]
abbrev dktX2_begins_2 : List UInt8 := dkwX2_begins_2 ++ dktX2_begins_3
def dkwX2_begins_1 : List UInt8 := [180, 0, 22, 3, 46, 79, 42, 27, 28, 3, 182, 0, 171, 62, 29, 4, 160, 0, 9, 42, 27, 28]
abbrev dktX2_begins_1 : List UInt8 := dkwX2_begins_1 ++ dktX2_begins_2
def dkwX2_begins_0 : List UInt8 := [42, 180, 0, 22, 27, 28, 3, 184, 0, 169, 4, 79, 42, 180, 0, 22, 27, 28, 4, 184, 0, 169, 42]
abbrev dktX2_begins_0 : List UInt8 := dkwX2_begins_0 ++ dktX2_begins_1
theorem dksX2_begins_0 : cX2_begins.data.toList.drop 0 = dktX2_begins_0 := by decide +kernel
theorem dksX2_begins_1 : cX2_begins.data.toList.drop 23 = dktX2_begins_1 := dk_seg dksX2_begins_0 23 rfl rfl
theorem dksX2_begins_2 : cX2_begins.data.toList.drop 45 = dktX2_begins_2 := dk_seg dksX2_begins_1 22 rfl rfl
theorem dksX2_begins_3 : cX2_begins.data.toList.drop 69 = dktX2_begins_3 := dk_seg dksX2_begins_2 24 rfl rfl
theorem dksX2_begins_4 : cX2_begins.data.toList.drop 92 = dktX2_begins_4 := dk_seg dksX2_begins_3 23 rfl rfl
theorem dksX2_begins_5 : cX2_begins.data.toList.drop 115 = dktX2_begins_5 := dk_seg dksX2_begins_4 23 rfl rfl
theorem dksX2_begins_6 : cX2_begins.data.toList.drop 138 = dktX2_begins_6 := dk_seg dksX2_begins_5 23 rfl rfl
theorem dksX2_begins_7 : cX2_begins.data.toList.drop 161 = dktX2_begins_7 := dk_seg dksX2_begins_6 23 rfl rfl
theorem dX2_begins_0 : decode cX2_begins 0 = .ok (.aload_n 0, 1) := dk_42 (dk_at dksX2_begins_0 0 rfl rfl)
theorem dX2_begins_1 : decode cX2_begins 1 = .ok (.getfield 22, 3) := dk_180 0 22 (dk_at dksX2_begins_0 1 rfl rfl)
theorem dX2_begins_4 : decode cX2_begins 4 = .ok (.iload_n 1, 1) := dk_27 (dk_at dksX2_begins_0 4 rfl rfl)
theorem dX2_begins_5 : decode cX2_begins 5 = .ok (.iload_n 2, 1) := dk_28 (dk_at dksX2_begins_0 5 rfl rfl)
theorem dX2_begins_6 : decode cX2_begins 6 = .ok (.iconst 0, 1) := dk_3 (dk_at dksX2_begins_0 6 rfl rfl)
theorem dX2_begins_7 : decode cX2_begins 7 = .ok (.invokestatic 169, 3) := dk_184 0 169 (dk_at dksX2_begins_0 7 rfl rfl)
theorem dX2_begins_10 : decode cX2_begins 10 = .ok (.iconst 1, 1) := dk_4 (dk_at dksX2_begins_0 10 rfl rfl)
theorem dX2_begins_11 : decode cX2_begins 11 = .ok (.iastore, 1) := dk_79 (dk_at dksX2_begins_0 11 rfl rfl)
theorem dX2_begins_12 : decode cX2_begins 12 = .ok (.aload_n 0, 1) := dk_42 (dk_at dksX2_begins_0 12 rfl rfl)
theorem dX2_begins_13 : decode cX2_begins 13 = .ok (.getfield 22, 3) := dk_180 0 22 (dk_at dksX2_begins_0 13 rfl rfl)
theorem dX2_begins_16 : decode cX2_begins 16 = .ok (.iload_n 1, 1) := dk_27 (dk_at dksX2_begins_0 16 rfl rfl)
theorem dX2_begins_17 : decode cX2_begins 17 = .ok (.iload_n 2, 1) := dk_28 (dk_at dksX2_begins_0 17 rfl rfl)
theorem dX2_begins_18 : decode cX2_begins 18 = .ok (.iconst 1, 1) := dk_4 (dk_at dksX2_begins_0 18 rfl rfl)
theorem dX2_begins_19 : decode cX2_begins 19 = .ok (.invokestatic 169, 3) := dk_184 0 169 (dk_at dksX2_begins_0 19 rfl rfl)
theorem dX2_begins_22 : decode cX2_begins 22 = .ok (.aload_n 0, 1) := dk_42 (dk_at dksX2_begins_0 22 rfl rfl)
theorem dX2_begins_23 : decode cX2_begins 23 = .ok (.getfield 22, 3) := dk_180 0 22 (dk_at dksX2_begins_1 0 rfl rfl)
theorem dX2_begins_26 : decode cX2_begins 26 = .ok (.iconst 0, 1) := dk_3 (dk_at dksX2_begins_1 3 rfl rfl)
theorem dX2_begins_27 : decode cX2_begins 27 = .ok (.iaload, 1) := dk_46 (dk_at dksX2_begins_1 4 rfl rfl)
theorem dX2_begins_28 : decode cX2_begins 28 = .ok (.iastore, 1) := dk_79 (dk_at dksX2_begins_1 5 rfl rfl)
theorem dX2_begins_29 : decode cX2_begins 29 = .ok (.aload_n 0, 1) := dk_42 (dk_at dksX2_begins_1 6 rfl rfl)
theorem dX2_begins_30 : decode cX2_begins 30 = .ok (.iload_n 1, 1) := dk_27 (dk_at dksX2_begins_1 7 rfl rfl)
theorem dX2_begins_31 : decode cX2_begins 31 = .ok (.iload_n 2, 1) := dk_28 (dk_at dksX2_begins_1 8 rfl rfl)
theorem dX2_begins_32 : decode cX2_begins 32 = .ok (.iconst 0, 1) := dk_3 (dk_at dksX2_begins_1 9 rfl rfl)
theorem dX2_begins_33 : decode cX2_begins 33 = .ok (.invokevirtual 171, 3) := dk_182 0 171 (dk_at dksX2_begins_1 10 rfl rfl)
theorem dX2_begins_36 : decode cX2_begins 36 = .ok (.istore_n 3, 1) := dk_62 (dk_at dksX2_begins_1 13 rfl rfl)
theorem dX2_begins_37 : decode cX2_begins 37 = .ok (.iload_n 3, 1) := dk_29 (dk_at dksX2_begins_1 14 rfl rfl)
theorem dX2_begins_38 : decode cX2_begins 38 = .ok (.iconst 1, 1) := dk_4 (dk_at dksX2_begins_1 15 rfl rfl)
theorem dX2_begins_39 : decode cX2_begins 39 = .ok (.if_icmp .ne 9, 3) := dk_160 0 9 (dk_at dksX2_begins_1 16 rfl rfl)
theorem dX2_begins_42 : decode cX2_begins 42 = .ok (.aload_n 0, 1) := dk_42 (dk_at dksX2_begins_1 19 rfl rfl)
theorem dX2_begins_43 : decode cX2_begins 43 = .ok (.iload_n 1, 1) := dk_27 (dk_at dksX2_begins_1 20 rfl rfl)
theorem dX2_begins_44 : decode cX2_begins 44 = .ok (.iload_n 2, 1) := dk_28 (dk_at dksX2_begins_1 21 rfl rfl)
theorem dX2_begins_45 : decode cX2_begins 45 = .ok (.invokevirtual 177, 3) := dk_182 0 177 (dk_at dksX2_begins_2 0 rfl rfl)
theorem dX2_begins_48 : decode cX2_begins 48 = .ok (.iload_n 3, 1) := dk_29 (dk_at dksX2_begins_2 3 rfl rfl)
theorem dX2_begins_49 : decode cX2_begins 49 = .ok (.iconst 5, 1) := dk_8 (dk_at dksX2_begins_2 4 rfl rfl)
theorem dX2_begins_50 : decode cX2_begins 50 = .ok (.if_icmp .ne 78, 3) := dk_160 0 78 (dk_at dksX2_begins_2 5 rfl rfl)
theorem dX2_begins_53 : decode cX2_begins 53 = .ok (.aload_n 0, 1) := dk_42 (dk_at dksX2_begins_2 8 rfl rfl)
theorem dX2_begins_54 : decode cX2_begins 54 = .ok (.iload_n 1, 1) := dk_27 (dk_at dksX2_begins_2 9 rfl rfl)
theorem dX2_begins_55 : decode cX2_begins 55 = .ok (.iload_n 2, 1) := dk_28 (dk_at dksX2_begins_2 10 rfl rfl)
theorem dX2_begins_56 : decode cX2_begins 56 = .ok (.iconst 5, 1) := dk_8 (dk_at dksX2_begins_2 11 rfl rfl)
theorem dX2_begins_57 : decode cX2_begins 57 = .ok (.invokevirtual 171, 3) := dk_182 0 171 (dk_at dksX2_begins_2 12 rfl rfl)
theorem dX2_begins_60 : decode cX2_begins 60 = .ok (.istore 4, 2) := dk_54 4 (dk_at dksX2_begins_2 15 rfl rfl)
theorem dX2_begins_62 : decode cX2_begins 62 = .ok (.aload_n 0, 1) := dk_42 (dk_at dksX2_begins_2 17 rfl rfl)
theorem dX2_begins_63 : decode cX2_begins 63 = .ok (.getfield 22, 3) := dk_180 0 22 (dk_at dksX2_begins_2 18 rfl rfl)
theorem dX2_begins_66 : decode cX2_begins 66 = .ok (.iload_n 1, 1) := dk_27 (dk_at dksX2_begins_2 21 rfl rfl)
theorem dX2_begins_67 : decode cX2_begins 67 = .ok (.bipush 10, 2) := dk_16 10 (dk_at dksX2_begins_2 22 rfl rfl)
theorem dX2_begins_69 : decode cX2_begins 69 = .ok (.aload_n 0, 1) := dk_42 (dk_at dksX2_begins_3 0 rfl rfl)
theorem dX2_begins_70 : decode cX2_begins 70 = .ok (.iload_n 1, 1) := dk_27 (dk_at dksX2_begins_3 1 rfl rfl)
theorem dX2_begins_71 : decode cX2_begins 71 = .ok (.iload_n 2, 1) := dk_28 (dk_at dksX2_begins_3 2 rfl rfl)
theorem dX2_begins_72 : decode cX2_begins 72 = .ok (.iconst 1, 1) := dk_4 (dk_at dksX2_begins_3 3 rfl rfl)
theorem dX2_begins_73 : decode cX2_begins 73 = .ok (.invokevirtual 171, 3) := dk_182 0 171 (dk_at dksX2_begins_3 4 rfl rfl)
theorem dX2_begins_76 : decode cX2_begins 76 = .ok (.iadd, 1) := dk_96 (dk_at dksX2_begins_3 7 rfl rfl)
theorem dX2_begins_77 : decode cX2_begins 77 = .ok (.invokestatic 163, 3) := dk_184 0 163 (dk_at dksX2_begins_3 8 rfl rfl)
theorem dX2_begins_80 : decode cX2_begins 80 = .ok (.iaload, 1) := dk_46 (dk_at dksX2_begins_3 11 rfl rfl)
theorem dX2_begins_81 : decode cX2_begins 81 = .ok (.aload_n 0, 1) := dk_42 (dk_at dksX2_begins_3 12 rfl rfl)
theorem dX2_begins_82 : decode cX2_begins 82 = .ok (.iload_n 1, 1) := dk_27 (dk_at dksX2_begins_3 13 rfl rfl)
theorem dX2_begins_83 : decode cX2_begins 83 = .ok (.iload_n 2, 1) := dk_28 (dk_at dksX2_begins_3 14 rfl rfl)
theorem dX2_begins_84 : decode cX2_begins 84 = .ok (.iconst 2, 1) := dk_5 (dk_at dksX2_begins_3 15 rfl rfl)
theorem dX2_begins_85 : decode cX2_begins 85 = .ok (.invokevirtual 171, 3) := dk_182 0 171 (dk_at dksX2_begins_3 16 rfl rfl)
theorem dX2_begins_88 : decode cX2_begins 88 = .ok (.if_icmp .ge 7, 3) := dk_162 0 7 (dk_at dksX2_begins_3 19 rfl rfl)
theorem dX2_begins_91 : decode cX2_begins 91 = .ok (.iconst 1, 1) := dk_4 (dk_at dksX2_begins_3 22 rfl rfl)
theorem dX2_begins_92 : decode cX2_begins 92 = .ok (.goto 4, 3) := dk_167 0 4 (dk_at dksX2_begins_4 0 rfl rfl)
theorem dX2_begins_95 : decode cX2_begins 95 = .ok (.iconst 0, 1) := dk_3 (dk_at dksX2_begins_4 3 rfl rfl)
theorem dX2_begins_96 : decode cX2_begins 96 = .ok (.istore 5, 2) := dk_54 5 (dk_at dksX2_begins_4 4 rfl rfl)
theorem dX2_begins_98 : decode cX2_begins 98 = .ok (.aload_n 0, 1) := dk_42 (dk_at dksX2_begins_4 6 rfl rfl)
theorem dX2_begins_99 : decode cX2_begins 99 = .ok (.getfield 22, 3) := dk_180 0 22 (dk_at dksX2_begins_4 7 rfl rfl)
theorem dX2_begins_102 : decode cX2_begins 102 = .ok (.iload_n 1, 1) := dk_27 (dk_at dksX2_begins_4 10 rfl rfl)
theorem dX2_begins_103 : decode cX2_begins 103 = .ok (.iload_n 2, 1) := dk_28 (dk_at dksX2_begins_4 11 rfl rfl)
theorem dX2_begins_104 : decode cX2_begins 104 = .ok (.iconst 2, 1) := dk_5 (dk_at dksX2_begins_4 12 rfl rfl)
theorem dX2_begins_105 : decode cX2_begins 105 = .ok (.invokestatic 169, 3) := dk_184 0 169 (dk_at dksX2_begins_4 13 rfl rfl)
theorem dX2_begins_108 : decode cX2_begins 108 = .ok (.iload 5, 2) := dk_21 5 (dk_at dksX2_begins_4 16 rfl rfl)
theorem dX2_begins_110 : decode cX2_begins 110 = .ok (.ifCond .eq 8, 3) := dk_153 0 8 (dk_at dksX2_begins_4 18 rfl rfl)
theorem dX2_begins_113 : decode cX2_begins 113 = .ok (.iload 4, 2) := dk_21 4 (dk_at dksX2_begins_4 21 rfl rfl)
theorem dX2_begins_115 : decode cX2_begins 115 = .ok (.goto 12, 3) := dk_167 0 12 (dk_at dksX2_begins_5 0 rfl rfl)
theorem dX2_begins_118 : decode cX2_begins 118 = .ok (.aload_n 0, 1) := dk_42 (dk_at dksX2_begins_5 3 rfl rfl)
theorem dX2_begins_119 : decode cX2_begins 119 = .ok (.iload_n 1, 1) := dk_27 (dk_at dksX2_begins_5 4 rfl rfl)
theorem dX2_begins_120 : decode cX2_begins 120 = .ok (.iload 4, 2) := dk_21 4 (dk_at dksX2_begins_5 5 rfl rfl)
theorem dX2_begins_122 : decode cX2_begins 122 = .ok (.bipush 6, 2) := dk_16 6 (dk_at dksX2_begins_5 7 rfl rfl)
theorem dX2_begins_124 : decode cX2_begins 124 = .ok (.invokevirtual 171, 3) := dk_182 0 171 (dk_at dksX2_begins_5 9 rfl rfl)
theorem dX2_begins_127 : decode cX2_begins 127 = .ok (.iastore, 1) := dk_79 (dk_at dksX2_begins_5 12 rfl rfl)
theorem dX2_begins_128 : decode cX2_begins 128 = .ok (.iload_n 3, 1) := dk_29 (dk_at dksX2_begins_5 13 rfl rfl)
theorem dX2_begins_129 : decode cX2_begins 129 = .ok (.bipush 6, 2) := dk_16 6 (dk_at dksX2_begins_5 14 rfl rfl)
theorem dX2_begins_131 : decode cX2_begins 131 = .ok (.if_icmp .ne 40, 3) := dk_160 0 40 (dk_at dksX2_begins_5 16 rfl rfl)
theorem dX2_begins_134 : decode cX2_begins 134 = .ok (.aload_n 0, 1) := dk_42 (dk_at dksX2_begins_5 19 rfl rfl)
theorem dX2_begins_135 : decode cX2_begins 135 = .ok (.iload_n 1, 1) := dk_27 (dk_at dksX2_begins_5 20 rfl rfl)
theorem dX2_begins_136 : decode cX2_begins 136 = .ok (.iload_n 2, 1) := dk_28 (dk_at dksX2_begins_5 21 rfl rfl)
theorem dX2_begins_137 : decode cX2_begins 137 = .ok (.iconst 5, 1) := dk_8 (dk_at dksX2_begins_5 22 rfl rfl)
theorem dX2_begins_138 : decode cX2_begins 138 = .ok (.invokevirtual 171, 3) := dk_182 0 171 (dk_at dksX2_begins_6 0 rfl rfl)
theorem dX2_begins_141 : decode cX2_begins 141 = .ok (.istore 4, 2) := dk_54 4 (dk_at dksX2_begins_6 3 rfl rfl)
theorem dX2_begins_143 : decode cX2_begins 143 = .ok (.iload 4, 2) := dk_21 4 (dk_at dksX2_begins_6 5 rfl rfl)
theorem dX2_begins_145 : decode cX2_begins 145 = .ok (.ifCond .lt 26, 3) := dk_155 0 26 (dk_at dksX2_begins_6 7 rfl rfl)
theorem dX2_begins_148 : decode cX2_begins 148 = .ok (.aload_n 0, 1) := dk_42 (dk_at dksX2_begins_6 10 rfl rfl)
theorem dX2_begins_149 : decode cX2_begins 149 = .ok (.iload_n 1, 1) := dk_27 (dk_at dksX2_begins_6 11 rfl rfl)
theorem dX2_begins_150 : decode cX2_begins 150 = .ok (.iload 4, 2) := dk_21 4 (dk_at dksX2_begins_6 12 rfl rfl)
theorem dX2_begins_152 : decode cX2_begins 152 = .ok (.invokevirtual 196, 3) := dk_182 0 196 (dk_at dksX2_begins_6 14 rfl rfl)
theorem dX2_begins_155 : decode cX2_begins 155 = .ok (.istore 5, 2) := dk_54 5 (dk_at dksX2_begins_6 17 rfl rfl)
theorem dX2_begins_157 : decode cX2_begins 157 = .ok (.aload_n 0, 1) := dk_42 (dk_at dksX2_begins_6 19 rfl rfl)
theorem dX2_begins_158 : decode cX2_begins 158 = .ok (.iload_n 1, 1) := dk_27 (dk_at dksX2_begins_6 20 rfl rfl)
theorem dX2_begins_159 : decode cX2_begins 159 = .ok (.iload 4, 2) := dk_21 4 (dk_at dksX2_begins_6 21 rfl rfl)
theorem dX2_begins_161 : decode cX2_begins 161 = .ok (.bipush 6, 2) := dk_16 6 (dk_at dksX2_begins_7 0 rfl rfl)
theorem dX2_begins_163 : decode cX2_begins 163 = .ok (.invokevirtual 171, 3) := dk_182 0 171 (dk_at dksX2_begins_7 2 rfl rfl)
theorem dX2_begins_166 : decode cX2_begins 166 = .ok (.istore 4, 2) := dk_54 4 (dk_at dksX2_begins_7 5 rfl rfl)
theorem dX2_begins_168 : decode cX2_begins 168 = .ok (.goto (-25), 3) := dk_167 255 231 (dk_at dksX2_begins_7 7 rfl rfl)
theorem dX2_begins_171 : decode cX2_begins 171 = .ok (.aload_n 0, 1) := dk_42 (dk_at dksX2_begins_7 10 rfl rfl)
theorem dX2_begins_172 : decode cX2_begins 172 = .ok (.iload_n 1, 1) := dk_27 (dk_at dksX2_begins_7 11 rfl rfl)
theorem dX2_begins_173 : decode cX2_begins 173 = .ok (.iload_n 2, 1) := dk_28 (dk_at dksX2_begins_7 12 rfl rfl)
theorem dX2_begins_174 : decode cX2_begins 174 = .ok (.invokevirtual 202, 3) := dk_182 0 202 (dk_at dksX2_begins_7 13 rfl rfl)
theorem dX2_begins_177 : decode cX2_begins 177 = .ok (.ireturn, 1) := dk_172 (dk_at dksX2_begins_7 16 rfl rfl)
theorem hd_X2_looks : (yX2_looks.cls ≠ "java/lang/invoke/MethodHandle" ∧ yX2_looks.cls ≠ "java/lang/invoke/VarHandle" ∧ (parseMethodDescriptor yX2_looks.desc).map (fun d => d.parameters.length) = some 2) := ⟨by decide +kernel, by decide +kernel, by decide +kernel⟩
def t_X2_begins (rec : Int32 → Int32 → TS → Option (Int32 × TS)) (p1 : Int32) (p2 : Int32) (w0 : TS) : Option (Int32 × TS) := gB2 (t_X2_at p1 p2 (nI 0) w0) fun x2 w1 => gB1 (tSt w1 5 x2 (nI 1)) fun w3 => gB2 (t_X2_at p1 p2 (nI 1) w3) fun x5 w4 => gB1 (tLd w4 5 (nI 0)) fun x6 => gB1 (tSt w4 5 x5 x6) fun w7 => gB2 (t_X2_nodePart p1 p2 (nI 0) w7) fun x9 w8 => gBd (fun (x12 : Int32) (x13 : Int32) (x14 : Int32) (w11 : TS) => gBd (fun (x17 : Int32) (x18 : Int32) (x19 : Int32) (w16 : TS) => gBd (fun (x22 : Int32) (x23 : Int32) (w21 : TS) => gB2 (t_X2_looks rec x22 x23 w21) fun x25 w24 => some (x25, w24)) fun k20 => if x19 = (nI 6) then gB2 (t_X2_nodePart x17 x18 (nI 5) w16) fun x28 w27 => gL3 (fun k33 (x30 : Int32) (x31 : Int32) (x32 : Int32) (w29 : TS) => if x32 < 0 then k20 x30 x31 w29 else gB2 (rec x30 x32 w29) fun x36 w35 => gB2 (t_X2_nodePart x30 x32 (nI 6) w35) fun x38 w37 => k33 x30 x31 x38 w37) 20000 x17 x18 x28 w27 else k20 x17 x18 w16) fun k15 => if x14 = (nI 5) then gB2 (t_X2_nodePart x12 x13 (nI 5) w11) fun x41 w40 => gB2 (t_X2_nodePart x12 x13 (nI 1) w40) fun x43 w42 => gB2 (t_X2_of x12 ((nI 10) + x43) w42) fun x45 w44 => gB1 (tLd w44 5 x45) fun x46 => gB2 (t_X2_nodePart x12 x13 (nI 2) w44) fun x48 w47 => gBd (fun (x51 : Int32) (x52 : Int32) (x53 : Int32) (x54 : Int32) (x55 : Int32) (w50 : TS) => gB2 (t_X2_at x51 x52 (nI 2) w50) fun x57 w56 => gBd (fun (x60 : Int32) (x61 : Int32) (x62 : Int32) (r63 : Nat) (x64 : Int32) (x65 : Int32) (w59 : TS) => gB1 (tSt w59 r63 x64 x65) fun w66 => k15 x60 x61 x62 w66) fun k58 => if x55 = 0 then gB2 (t_X2_nodePart x51 x54 (nI 6) w56) fun x69 w68 => k58 x51 x52 x53 5 x57 x69 w68 else k58 x51 x52 x53 5 x57 x54 w56) fun k49 => if x48 ≤ x46 then k49 x12 x13 x14 x41 (nI 0) w47 else k49 x12 x13 x14 x41 (nI 1) w47 else k15 x12 x13 x14 w11) fun k10 => if x9 = (nI 1) then gB2 (t_X2_tries p1 p2 w8) fun _ w72 => k10 p1 p2 x9 w72 else k10 p1 p2 x9 w8
set_option maxHeartbeats 4000000 in
set_option maxRecDepth 100000 in
theorem kt_X2_begins {D : va_G} {dA : Nat → ClassId} {A : Nat → Prop} {K : Nat → Nat} {l : Launch} {wb : gw} {ad : Nat → Nat} (hinj : tInj ad) {h : Nat} {rec : Int32 → Int32 → TS → Option (Int32 × TS)} {B : Nat} (hrec : ∀ {h : Nat}, B ≤ h → ∀ {p1 : Int32} {p2 : Int32} {w0 ww : TS} {rr : Int32}, rec p1 p2 w0 = some (rr, ww) → gMet D dA A K l yX2_looksAtBody (ws_ yX2_looksAtBody cX2_looksAtBody 5 (some .int)) h [(ga (some (ad 0))), (gi p1), (gi p2)] (some (gi rr)) (twOf wb ad w0) (twOf wb ad ww)) (hb : 17 ≤ B) (hh : B + 3 ≤ h) {p1 : Int32} {p2 : Int32} {w0 ww : TS} {rr : Int32} (hf : t_X2_begins rec p1 p2 w0 = some (rr, ww)) : gMet D dA A K l yX2_begins (ws_ yX2_begins cX2_begins 6 (some .int)) h [(ga (some (ad 0))), (gi p1), (gi p2)] (some (gi rr)) (twOf wb ad w0) (twOf wb ad ww) := by
  refine j_start (own := RX2) (by decide +kernel) rfl (Nat.le_of_ble_eq_true rfl) ?_
  intro p e R s m args below meth c C hr hin hw
  unfold t_X2_begins at hf
  show gJ D dA A K p l e R s m args below meth c (gEnd D dA A K below args s (twOf wb ad w0) (some (gi rr)) (twOf wb ad ww)) 6 0 [(0, (ga (some (ad 0)))), (1, (gi p1)), (2, (gi p2))] [] (twOf wb ad w0)
  refine j_aload_n C dX2_begins_0 rfl ?_
  refine j_get (v := (ga (some (ad 5)))) C fl_X2_22_2 dX2_begins_1 (tw_F hinj rfl) ?_
  refine j_iload_n C dX2_begins_4 rfl ?_
  refine j_iload_n C dX2_begins_5 rfl ?_
  refine j_iconst (v := (nI 0)) C dX2_begins_6 (by decide) ?_
  replace hf := gB2_e hf
  obtain ⟨x2, w1, ew1, hf⟩ := hf
  refine j_callS (As := [(gi p1), (gi p2), (gi (nI 0))]) (rest := [(ga (some (ad 5)))]) (v := (some (gi x2))) C (by omega) (kt_X2_at hinj (by omega) ew1) q1801 q1802 q93 q1803 hd_X2_at (by decide) rfl (Nat.le_of_ble_eq_true rfl) dX2_begins_7 ?_
  refine j_iconst (v := (nI 1)) C dX2_begins_10 (by decide) ?_
  replace hf := gB1_e hf
  obtain ⟨w3, ew3, hf⟩ := hf
  refine j_iast C (tw_st hinj ew3) dX2_begins_11 ?_
  refine j_aload_n C dX2_begins_12 rfl ?_
  refine j_get (v := (ga (some (ad 5)))) C fl_X2_22_2 dX2_begins_13 (tw_F hinj rfl) ?_
  refine j_iload_n C dX2_begins_16 rfl ?_
  refine j_iload_n C dX2_begins_17 rfl ?_
  refine j_iconst (v := (nI 1)) C dX2_begins_18 (by decide) ?_
  replace hf := gB2_e hf
  obtain ⟨x5, w4, ew4, hf⟩ := hf
  refine j_callS (As := [(gi p1), (gi p2), (gi (nI 1))]) (rest := [(ga (some (ad 5)))]) (v := (some (gi x5))) C (by omega) (kt_X2_at hinj (by omega) ew4) q1801 q1802 q93 q1803 hd_X2_at (by decide) rfl (Nat.le_of_ble_eq_true rfl) dX2_begins_19 ?_
  refine j_aload_n C dX2_begins_22 rfl ?_
  refine j_get (v := (ga (some (ad 5)))) C fl_X2_22_2 dX2_begins_23 (tw_F hinj rfl) ?_
  refine j_iconst (v := (nI 0)) C dX2_begins_26 (by decide) ?_
  replace hf := gB1_e hf
  obtain ⟨x6, ex6, hf⟩ := hf
  refine j_iald C (tw_ld hinj ex6) dX2_begins_27 ?_
  replace hf := gB1_e hf
  obtain ⟨w7, ew7, hf⟩ := hf
  refine j_iast C (tw_st hinj ew7) dX2_begins_28 ?_
  refine j_aload_n C dX2_begins_29 rfl ?_
  refine j_iload_n C dX2_begins_30 rfl ?_
  refine j_iload_n C dX2_begins_31 rfl ?_
  refine j_iconst (v := (nI 0)) C dX2_begins_32 (by decide) ?_
  replace hf := gB2_e hf
  obtain ⟨x9, w8, ew8, hf⟩ := hf
  refine j_callV (As := [(gi p1), (gi p2), (gi (nI 0))]) (rest := []) (v := (some (gi x9))) C (by omega) (kt_X2_nodePart hinj (by omega) ew8) (tw_cls hinj) rfl q1812 q1814 qs60 q93 q1815 ⟨rfl, hd_X2_nodePart⟩ (by decide) rfl (Nat.le_of_ble_eq_true rfl) dX2_begins_33 ?_
  refine j_istore_n (lv' := [(3, (gi x9)), (0, (ga (some (ad 0)))), (1, (gi p1)), (2, (gi p2))]) C dX2_begins_36 (by decide) rfl ?_
  refine j_iload_n C dX2_begins_37 rfl ?_
  refine j_iconst (v := (nI 1)) C dX2_begins_38 (by decide) ?_
  replace hf := gBd_x hf
  obtain ⟨k10, ek10, hf⟩ := hf
  have jk10 : ∀ (x12 : Int32) (x13 : Int32) (x14 : Int32) (w11 : TS), k10 x12 x13 x14 w11 = some (rr, ww) → gJ D dA A K p l e R s m args below meth c (gEnd D dA A K below args s (twOf wb ad w0) (some (gi rr)) (twOf wb ad ww)) 6 48 [(0, (ga (some (ad 0)))), (1, (gi x12)), (2, (gi x13)), (3, (gi x14))] [] (twOf wb ad w11) := by
    intro x12 x13 x14 w11 hf
    rw [ek10] at hf
    dsimp only at hf
    refine j_iload_n C dX2_begins_48 rfl ?_
    refine j_iconst (v := (nI 5)) C dX2_begins_49 (by decide) ?_
    replace hf := gBd_x hf
    obtain ⟨k15, ek15, hf⟩ := hf
    have jk15 : ∀ (x17 : Int32) (x18 : Int32) (x19 : Int32) (w16 : TS), k15 x17 x18 x19 w16 = some (rr, ww) → gJ D dA A K p l e R s m args below meth c (gEnd D dA A K below args s (twOf wb ad w0) (some (gi rr)) (twOf wb ad ww)) 6 128 [(0, (ga (some (ad 0)))), (1, (gi x17)), (2, (gi x18)), (3, (gi x19))] [] (twOf wb ad w16) := by
      intro x17 x18 x19 w16 hf
      rw [ek15] at hf
      dsimp only at hf
      refine j_iload_n C dX2_begins_128 rfl ?_
      refine j_bipush (v := (nI 6)) C dX2_begins_129 (by decide) ?_
      replace hf := gBd_x hf
      obtain ⟨k20, ek20, hf⟩ := hf
      have jk20 : ∀ (x22 : Int32) (x23 : Int32) (w21 : TS), k20 x22 x23 w21 = some (rr, ww) → gJ D dA A K p l e R s m args below meth c (gEnd D dA A K below args s (twOf wb ad w0) (some (gi rr)) (twOf wb ad ww)) 6 171 [(0, (ga (some (ad 0)))), (1, (gi x22)), (2, (gi x23))] [] (twOf wb ad w21) := by
        intro x22 x23 w21 hf
        rw [ek20] at hf
        dsimp only at hf
        refine j_aload_n C dX2_begins_171 rfl ?_
        refine j_iload_n C dX2_begins_172 rfl ?_
        refine j_iload_n C dX2_begins_173 rfl ?_
        replace hf := gB2_e hf
        obtain ⟨x25, w24, ew24, hf⟩ := hf
        refine j_callV (As := [(gi x22), (gi x23)]) (rest := []) (v := (some (gi x25))) C (by omega) (kt_X2_looks hinj hrec hb (by omega) ew24) (tw_cls hinj) rfl q1832 q1834 qs65 q93 q1835 ⟨rfl, hd_X2_looks⟩ (by decide) rfl (Nat.le_of_ble_eq_true rfl) dX2_begins_174 ?_
        obtain ⟨rfl, rfl⟩ := gSome hf
        exact j_iret C hr hw dX2_begins_177
      clear ek20
      refine j_icmp_ne (tgt := 171) C dX2_begins_131 (by decide) (fun c26 => ?_) (fun c26 => ?_)
      · replace hf := gIf_f hf c26
        refine j_sub (lv' := [(0, (ga (some (ad 0)))), (1, (gi x17)), (2, (gi x18))]) (gL_cons rfl (gL_cons rfl (gL_cons rfl (gL_nil)))) ?_
        exact jk20 _ _ _ hf
      · replace hf := gIf_t hf c26
        refine j_aload_n C dX2_begins_134 rfl ?_
        refine j_iload_n C dX2_begins_135 rfl ?_
        refine j_iload_n C dX2_begins_136 rfl ?_
        refine j_iconst (v := (nI 5)) C dX2_begins_137 (by decide) ?_
        replace hf := gB2_e hf
        obtain ⟨x28, w27, ew27, hf⟩ := hf
        refine j_callV (As := [(gi x17), (gi x18), (gi (nI 5))]) (rest := []) (v := (some (gi x28))) C (by omega) (kt_X2_nodePart hinj (by omega) ew27) (tw_cls hinj) rfl q1812 q1814 qs60 q93 q1815 ⟨rfl, hd_X2_nodePart⟩ (by decide) rfl (Nat.le_of_ble_eq_true rfl) dX2_begins_138 ?_
        refine j_istore (lv' := [(4, (gi x28)), (0, (ga (some (ad 0)))), (1, (gi x17)), (2, (gi x18)), (3, (gi x19))]) C dX2_begins_141 (by decide) rfl ?_
        refine j_sub (lv' := [(0, (ga (some (ad 0)))), (1, (gi x17)), (2, (gi x18)), (4, (gi x28))]) (gL_cons rfl (gL_cons rfl (gL_cons rfl (gL_cons rfl (gL_nil))))) ?_
        refine gL3_e (fun (x30 : Int32) (x31 : Int32) (x32 : Int32) (w29 : TS) => gJ D dA A K p l e R s m args below meth c (gEnd D dA A K below args s (twOf wb ad w0) (some (gi rr)) (twOf wb ad ww)) 6 143 [(0, (ga (some (ad 0)))), (1, (gi x30)), (2, (gi x31)), (4, (gi x32))] [] (twOf wb ad w29)) ?_ _ _ _ _ _ hf
        intro k33 jk33 x30 x31 x32 w29 hf
        refine j_iload C dX2_begins_143 rfl ?_
        refine j_if_lt (tgt := 171) C dX2_begins_145 (by decide) (fun c34 => ?_) (fun c34 => ?_)
        · replace hf := gIf_t hf c34
          refine j_sub (lv' := [(0, (ga (some (ad 0)))), (1, (gi x30)), (2, (gi x31))]) (gL_cons rfl (gL_cons rfl (gL_cons rfl (gL_nil)))) ?_
          exact jk20 _ _ _ hf
        · replace hf := gIf_f hf c34
          refine j_aload_n C dX2_begins_148 rfl ?_
          refine j_iload_n C dX2_begins_149 rfl ?_
          refine j_iload C dX2_begins_150 rfl ?_
          replace hf := gB2_e hf
          obtain ⟨x36, w35, ew35, hf⟩ := hf
          refine j_callV (As := [(gi x30), (gi x32)]) (rest := []) (v := (some (gi x36))) C (by omega) (hrec (by omega) ew35) (tw_cls hinj) rfl q1808 q1810 qs59 q93 q1811 ⟨rfl, hd_X2_looksAtBody⟩ (by decide) rfl (Nat.le_of_ble_eq_true rfl) dX2_begins_152 ?_
          refine j_istore (lv' := [(5, (gi x36)), (0, (ga (some (ad 0)))), (1, (gi x30)), (2, (gi x31)), (4, (gi x32))]) C dX2_begins_155 (by decide) rfl ?_
          refine j_aload_n C dX2_begins_157 rfl ?_
          refine j_iload_n C dX2_begins_158 rfl ?_
          refine j_iload C dX2_begins_159 rfl ?_
          refine j_bipush (v := (nI 6)) C dX2_begins_161 (by decide) ?_
          replace hf := gB2_e hf
          obtain ⟨x38, w37, ew37, hf⟩ := hf
          refine j_callV (As := [(gi x30), (gi x32), (gi (nI 6))]) (rest := []) (v := (some (gi x38))) C (by omega) (kt_X2_nodePart hinj (by omega) ew37) (tw_cls hinj) rfl q1812 q1814 qs60 q93 q1815 ⟨rfl, hd_X2_nodePart⟩ (by decide) rfl (Nat.le_of_ble_eq_true rfl) dX2_begins_163 ?_
          refine j_istore (lv' := [(4, (gi x38)), (5, (gi x36)), (0, (ga (some (ad 0)))), (1, (gi x30)), (2, (gi x31))]) C dX2_begins_166 (by decide) rfl ?_
          refine j_goto (tgt := 143) C dX2_begins_168 (by decide) ?_
          refine j_sub (lv' := [(0, (ga (some (ad 0)))), (1, (gi x30)), (2, (gi x31)), (4, (gi x38))]) (gL_cons rfl (gL_cons rfl (gL_cons rfl (gL_cons rfl (gL_nil))))) ?_
          exact jk33 _ _ _ _ hf
    clear ek15
    refine j_icmp_ne (tgt := 128) C dX2_begins_50 (by decide) (fun c39 => ?_) (fun c39 => ?_)
    · replace hf := gIf_f hf c39
      exact jk15 _ _ _ _ hf
    · replace hf := gIf_t hf c39
      refine j_aload_n C dX2_begins_53 rfl ?_
      refine j_iload_n C dX2_begins_54 rfl ?_
      refine j_iload_n C dX2_begins_55 rfl ?_
      refine j_iconst (v := (nI 5)) C dX2_begins_56 (by decide) ?_
      replace hf := gB2_e hf
      obtain ⟨x41, w40, ew40, hf⟩ := hf
      refine j_callV (As := [(gi x12), (gi x13), (gi (nI 5))]) (rest := []) (v := (some (gi x41))) C (by omega) (kt_X2_nodePart hinj (by omega) ew40) (tw_cls hinj) rfl q1812 q1814 qs60 q93 q1815 ⟨rfl, hd_X2_nodePart⟩ (by decide) rfl (Nat.le_of_ble_eq_true rfl) dX2_begins_57 ?_
      refine j_istore (lv' := [(4, (gi x41)), (0, (ga (some (ad 0)))), (1, (gi x12)), (2, (gi x13)), (3, (gi x14))]) C dX2_begins_60 (by decide) rfl ?_
      refine j_aload_n C dX2_begins_62 rfl ?_
      refine j_get (v := (ga (some (ad 5)))) C fl_X2_22_2 dX2_begins_63 (tw_F hinj rfl) ?_
      refine j_iload_n C dX2_begins_66 rfl ?_
      refine j_bipush (v := (nI 10)) C dX2_begins_67 (by decide) ?_
      refine j_aload_n C dX2_begins_69 rfl ?_
      refine j_iload_n C dX2_begins_70 rfl ?_
      refine j_iload_n C dX2_begins_71 rfl ?_
      refine j_iconst (v := (nI 1)) C dX2_begins_72 (by decide) ?_
      replace hf := gB2_e hf
      obtain ⟨x43, w42, ew42, hf⟩ := hf
      refine j_callV (As := [(gi x12), (gi x13), (gi (nI 1))]) (rest := [(gi (nI 10)), (gi x12), (ga (some (ad 5)))]) (v := (some (gi x43))) C (by omega) (kt_X2_nodePart hinj (by omega) ew42) (tw_cls hinj) rfl q1812 q1814 qs60 q93 q1815 ⟨rfl, hd_X2_nodePart⟩ (by decide) rfl (Nat.le_of_ble_eq_true rfl) dX2_begins_73 ?_
      refine j_iadd C dX2_begins_76 ?_
      replace hf := gB2_e hf
      obtain ⟨x45, w44, ew44, hf⟩ := hf
      refine j_callS (As := [(gi x12), (gi ((nI 10) + x43))]) (rest := [(ga (some (ad 5)))]) (v := (some (gi x45))) C (by omega) (kt_X2_of hinj (by omega) ew44) q1798 q1799 q93 q1800 hd_X2_of (by decide) rfl (Nat.le_of_ble_eq_true rfl) dX2_begins_77 ?_
      replace hf := gB1_e hf
      obtain ⟨x46, ex46, hf⟩ := hf
      refine j_iald C (tw_ld hinj ex46) dX2_begins_80 ?_
      refine j_aload_n C dX2_begins_81 rfl ?_
      refine j_iload_n C dX2_begins_82 rfl ?_
      refine j_iload_n C dX2_begins_83 rfl ?_
      refine j_iconst (v := (nI 2)) C dX2_begins_84 (by decide) ?_
      replace hf := gB2_e hf
      obtain ⟨x48, w47, ew47, hf⟩ := hf
      refine j_callV (As := [(gi x12), (gi x13), (gi (nI 2))]) (rest := [(gi x46)]) (v := (some (gi x48))) C (by omega) (kt_X2_nodePart hinj (by omega) ew47) (tw_cls hinj) rfl q1812 q1814 qs60 q93 q1815 ⟨rfl, hd_X2_nodePart⟩ (by decide) rfl (Nat.le_of_ble_eq_true rfl) dX2_begins_85 ?_
      replace hf := gBd_x hf
      obtain ⟨k49, ek49, hf⟩ := hf
      have jk49 : ∀ (x51 : Int32) (x52 : Int32) (x53 : Int32) (x54 : Int32) (x55 : Int32) (w50 : TS), k49 x51 x52 x53 x54 x55 w50 = some (rr, ww) → gJ D dA A K p l e R s m args below meth c (gEnd D dA A K below args s (twOf wb ad w0) (some (gi rr)) (twOf wb ad ww)) 6 96 [(0, (ga (some (ad 0)))), (1, (gi x51)), (2, (gi x52)), (3, (gi x53)), (4, (gi x54))] [(gi x55)] (twOf wb ad w50) := by
        intro x51 x52 x53 x54 x55 w50 hf
        rw [ek49] at hf
        dsimp only at hf
        refine j_istore (lv' := [(5, (gi x55)), (0, (ga (some (ad 0)))), (1, (gi x51)), (2, (gi x52)), (3, (gi x53)), (4, (gi x54))]) C dX2_begins_96 (by decide) rfl ?_
        refine j_aload_n C dX2_begins_98 rfl ?_
        refine j_get (v := (ga (some (ad 5)))) C fl_X2_22_2 dX2_begins_99 (tw_F hinj rfl) ?_
        refine j_iload_n C dX2_begins_102 rfl ?_
        refine j_iload_n C dX2_begins_103 rfl ?_
        refine j_iconst (v := (nI 2)) C dX2_begins_104 (by decide) ?_
        replace hf := gB2_e hf
        obtain ⟨x57, w56, ew56, hf⟩ := hf
        refine j_callS (As := [(gi x51), (gi x52), (gi (nI 2))]) (rest := [(ga (some (ad 5)))]) (v := (some (gi x57))) C (by omega) (kt_X2_at hinj (by omega) ew56) q1801 q1802 q93 q1803 hd_X2_at (by decide) rfl (Nat.le_of_ble_eq_true rfl) dX2_begins_105 ?_
        refine j_iload C dX2_begins_108 rfl ?_
        replace hf := gBd_x hf
        obtain ⟨k58, ek58, hf⟩ := hf
        have jk58 : ∀ (x60 : Int32) (x61 : Int32) (x62 : Int32) (r63 : Nat) (x64 : Int32) (x65 : Int32) (w59 : TS), k58 x60 x61 x62 r63 x64 x65 w59 = some (rr, ww) → gJ D dA A K p l e R s m args below meth c (gEnd D dA A K below args s (twOf wb ad w0) (some (gi rr)) (twOf wb ad ww)) 6 127 [(0, (ga (some (ad 0)))), (1, (gi x60)), (2, (gi x61)), (3, (gi x62))] [(gi x65), (gi x64), (ga (some (ad r63)))] (twOf wb ad w59) := by
          intro x60 x61 x62 r63 x64 x65 w59 hf
          rw [ek58] at hf
          dsimp only at hf
          replace hf := gB1_e hf
          obtain ⟨w66, ew66, hf⟩ := hf
          refine j_iast C (tw_st hinj ew66) dX2_begins_127 ?_
          exact jk15 _ _ _ _ hf
        clear ek58
        refine j_if_eq (tgt := 118) C dX2_begins_110 (by decide) (fun c67 => ?_) (fun c67 => ?_)
        · replace hf := gIf_t hf c67
          refine j_aload_n C dX2_begins_118 rfl ?_
          refine j_iload_n C dX2_begins_119 rfl ?_
          refine j_iload C dX2_begins_120 rfl ?_
          refine j_bipush (v := (nI 6)) C dX2_begins_122 (by decide) ?_
          replace hf := gB2_e hf
          obtain ⟨x69, w68, ew68, hf⟩ := hf
          refine j_callV (As := [(gi x51), (gi x54), (gi (nI 6))]) (rest := [(gi x57), (ga (some (ad 5)))]) (v := (some (gi x69))) C (by omega) (kt_X2_nodePart hinj (by omega) ew68) (tw_cls hinj) rfl q1812 q1814 qs60 q93 q1815 ⟨rfl, hd_X2_nodePart⟩ (by decide) rfl (Nat.le_of_ble_eq_true rfl) dX2_begins_124 ?_
          refine j_sub (lv' := [(0, (ga (some (ad 0)))), (1, (gi x51)), (2, (gi x52)), (3, (gi x53))]) (gL_cons rfl (gL_cons rfl (gL_cons rfl (gL_cons rfl (gL_nil))))) ?_
          exact jk58 _ _ _ _ _ _ _ hf
        · replace hf := gIf_f hf c67
          refine j_iload C dX2_begins_113 rfl ?_
          refine j_goto (tgt := 127) C dX2_begins_115 (by decide) ?_
          refine j_sub (lv' := [(0, (ga (some (ad 0)))), (1, (gi x51)), (2, (gi x52)), (3, (gi x53))]) (gL_cons rfl (gL_cons rfl (gL_cons rfl (gL_cons rfl (gL_nil))))) ?_
          exact jk58 _ _ _ _ _ _ _ hf
      clear ek49
      refine j_icmp_ge (tgt := 95) C dX2_begins_88 (by decide) (fun c70 => ?_) (fun c70 => ?_)
      · replace hf := gIf_t hf c70
        refine j_iconst (v := (nI 0)) C dX2_begins_95 (by decide) ?_
        refine j_sub (lv' := [(0, (ga (some (ad 0)))), (1, (gi x12)), (2, (gi x13)), (3, (gi x14)), (4, (gi x41))]) (gL_cons rfl (gL_cons rfl (gL_cons rfl (gL_cons rfl (gL_cons rfl (gL_nil)))))) ?_
        exact jk49 _ _ _ _ _ _ hf
      · replace hf := gIf_f hf c70
        refine j_iconst (v := (nI 1)) C dX2_begins_91 (by decide) ?_
        refine j_goto (tgt := 96) C dX2_begins_92 (by decide) ?_
        refine j_sub (lv' := [(0, (ga (some (ad 0)))), (1, (gi x12)), (2, (gi x13)), (3, (gi x14)), (4, (gi x41))]) (gL_cons rfl (gL_cons rfl (gL_cons rfl (gL_cons rfl (gL_cons rfl (gL_nil)))))) ?_
        exact jk49 _ _ _ _ _ _ hf
  clear ek10
  refine j_icmp_ne (tgt := 48) C dX2_begins_39 (by decide) (fun c71 => ?_) (fun c71 => ?_)
  · replace hf := gIf_f hf c71
    refine j_sub (lv' := [(0, (ga (some (ad 0)))), (1, (gi p1)), (2, (gi p2)), (3, (gi x9))]) (gL_cons rfl (gL_cons rfl (gL_cons rfl (gL_cons rfl (gL_nil))))) ?_
    exact jk10 _ _ _ _ hf
  · replace hf := gIf_t hf c71
    refine j_aload_n C dX2_begins_42 rfl ?_
    refine j_iload_n C dX2_begins_43 rfl ?_
    refine j_iload_n C dX2_begins_44 rfl ?_
    replace hf := gB2_e hf
    obtain ⟨_, w72, ew72, hf⟩ := hf
    refine j_callV (As := [(gi p1), (gi p2)]) (rest := []) (v := none) C (by omega) (kt_X2_tries hinj (by omega) ew72) (tw_cls hinj) rfl q1824 q1826 qs63 q93 q1827 ⟨rfl, hd_X2_tries⟩ (by decide) rfl (Nat.le_of_ble_eq_true rfl) dX2_begins_45 ?_
    refine j_sub (lv' := [(0, (ga (some (ad 0)))), (1, (gi p1)), (2, (gi p2)), (3, (gi x9))]) (gL_cons rfl (gL_cons rfl (gL_cons rfl (gL_cons rfl (gL_nil))))) ?_
    exact jk10 _ _ _ _ hf
def dkwX2_looksAtBody_4 : List UInt8 := [42, 27, 29, 16, 6, 182, 0, 171, 62, 167, 255, 172, 42, 27, 28, 5, 182, 0, 184, 172]
abbrev dktX2_looksAtBody_4 : List UInt8 := dkwX2_looksAtBody_4 ++ []
def dkwX2_looksAtBody_3 : List UInt8 := [54, 4, 21, 4, 6, 160, 0, 11, 42, 27, 28, 6, 182, 0, 184, 172, 21, 4, 5, 159, 0, 5, 4, 172]
abbrev dktX2_looksAtBody_3 : List UInt8 := dkwX2_looksAtBody_3 ++ dktX2_looksAtBody_4
def dkwX2_looksAtBody_2 : List UInt8 := [54, 4, 167, 0, 23, 21, 4, 4, 159, 0, 9, 21, 4, 8, 160, 0, 11, 42, 27, 29, 182, 0, 202]
abbrev dktX2_looksAtBody_2 : List UInt8 := dkwX2_looksAtBody_2 ++ dktX2_looksAtBody_3
def dkwX2_looksAtBody_1 : List UInt8 := [42, 180, 0, 22, 27, 29, 3, 184, 0, 169, 46, 54, 4, 21, 4, 154, 0, 14, 42, 27, 29, 182, 0, 205]
abbrev dktX2_looksAtBody_1 : List UInt8 := dkwX2_looksAtBody_1 ++ dktX2_looksAtBody_2
def dkwX2_looksAtBody_0 : List UInt8 := [42, 180, 0, 22, 27, 28, 3, 184, 0, 169, 4, 79, 42, 27, 28, 8, 182, 0, 171, 62, 29, 155, 0, 86]
abbrev dktX2_looksAtBody_0 : List UInt8 := dkwX2_looksAtBody_0 ++ dktX2_looksAtBody_1
theorem dksX2_looksAtBody_0 : cX2_looksAtBody.data.toList.drop 0 = dktX2_looksAtBody_0 := by decide +kernel
theorem dksX2_looksAtBody_1 : cX2_looksAtBody.data.toList.drop 24 = dktX2_looksAtBody_1 := dk_seg dksX2_looksAtBody_0 24 rfl rfl
theorem dksX2_looksAtBody_2 : cX2_looksAtBody.data.toList.drop 48 = dktX2_looksAtBody_2 := dk_seg dksX2_looksAtBody_1 24 rfl rfl
theorem dksX2_looksAtBody_3 : cX2_looksAtBody.data.toList.drop 71 = dktX2_looksAtBody_3 := dk_seg dksX2_looksAtBody_2 23 rfl rfl
theorem dksX2_looksAtBody_4 : cX2_looksAtBody.data.toList.drop 95 = dktX2_looksAtBody_4 := dk_seg dksX2_looksAtBody_3 24 rfl rfl
theorem dX2_looksAtBody_0 : decode cX2_looksAtBody 0 = .ok (.aload_n 0, 1) := dk_42 (dk_at dksX2_looksAtBody_0 0 rfl rfl)
theorem dX2_looksAtBody_1 : decode cX2_looksAtBody 1 = .ok (.getfield 22, 3) := dk_180 0 22 (dk_at dksX2_looksAtBody_0 1 rfl rfl)
theorem dX2_looksAtBody_4 : decode cX2_looksAtBody 4 = .ok (.iload_n 1, 1) := dk_27 (dk_at dksX2_looksAtBody_0 4 rfl rfl)
theorem dX2_looksAtBody_5 : decode cX2_looksAtBody 5 = .ok (.iload_n 2, 1) := dk_28 (dk_at dksX2_looksAtBody_0 5 rfl rfl)
theorem dX2_looksAtBody_6 : decode cX2_looksAtBody 6 = .ok (.iconst 0, 1) := dk_3 (dk_at dksX2_looksAtBody_0 6 rfl rfl)
theorem dX2_looksAtBody_7 : decode cX2_looksAtBody 7 = .ok (.invokestatic 169, 3) := dk_184 0 169 (dk_at dksX2_looksAtBody_0 7 rfl rfl)
theorem dX2_looksAtBody_10 : decode cX2_looksAtBody 10 = .ok (.iconst 1, 1) := dk_4 (dk_at dksX2_looksAtBody_0 10 rfl rfl)
theorem dX2_looksAtBody_11 : decode cX2_looksAtBody 11 = .ok (.iastore, 1) := dk_79 (dk_at dksX2_looksAtBody_0 11 rfl rfl)
theorem dX2_looksAtBody_12 : decode cX2_looksAtBody 12 = .ok (.aload_n 0, 1) := dk_42 (dk_at dksX2_looksAtBody_0 12 rfl rfl)
theorem dX2_looksAtBody_13 : decode cX2_looksAtBody 13 = .ok (.iload_n 1, 1) := dk_27 (dk_at dksX2_looksAtBody_0 13 rfl rfl)
theorem dX2_looksAtBody_14 : decode cX2_looksAtBody 14 = .ok (.iload_n 2, 1) := dk_28 (dk_at dksX2_looksAtBody_0 14 rfl rfl)
theorem dX2_looksAtBody_15 : decode cX2_looksAtBody 15 = .ok (.iconst 5, 1) := dk_8 (dk_at dksX2_looksAtBody_0 15 rfl rfl)
theorem dX2_looksAtBody_16 : decode cX2_looksAtBody 16 = .ok (.invokevirtual 171, 3) := dk_182 0 171 (dk_at dksX2_looksAtBody_0 16 rfl rfl)
theorem dX2_looksAtBody_19 : decode cX2_looksAtBody 19 = .ok (.istore_n 3, 1) := dk_62 (dk_at dksX2_looksAtBody_0 19 rfl rfl)
theorem dX2_looksAtBody_20 : decode cX2_looksAtBody 20 = .ok (.iload_n 3, 1) := dk_29 (dk_at dksX2_looksAtBody_0 20 rfl rfl)
theorem dX2_looksAtBody_21 : decode cX2_looksAtBody 21 = .ok (.ifCond .lt 86, 3) := dk_155 0 86 (dk_at dksX2_looksAtBody_0 21 rfl rfl)
theorem dX2_looksAtBody_24 : decode cX2_looksAtBody 24 = .ok (.aload_n 0, 1) := dk_42 (dk_at dksX2_looksAtBody_1 0 rfl rfl)
theorem dX2_looksAtBody_25 : decode cX2_looksAtBody 25 = .ok (.getfield 22, 3) := dk_180 0 22 (dk_at dksX2_looksAtBody_1 1 rfl rfl)
theorem dX2_looksAtBody_28 : decode cX2_looksAtBody 28 = .ok (.iload_n 1, 1) := dk_27 (dk_at dksX2_looksAtBody_1 4 rfl rfl)
theorem dX2_looksAtBody_29 : decode cX2_looksAtBody 29 = .ok (.iload_n 3, 1) := dk_29 (dk_at dksX2_looksAtBody_1 5 rfl rfl)
theorem dX2_looksAtBody_30 : decode cX2_looksAtBody 30 = .ok (.iconst 0, 1) := dk_3 (dk_at dksX2_looksAtBody_1 6 rfl rfl)
theorem dX2_looksAtBody_31 : decode cX2_looksAtBody 31 = .ok (.invokestatic 169, 3) := dk_184 0 169 (dk_at dksX2_looksAtBody_1 7 rfl rfl)
theorem dX2_looksAtBody_34 : decode cX2_looksAtBody 34 = .ok (.iaload, 1) := dk_46 (dk_at dksX2_looksAtBody_1 10 rfl rfl)
theorem dX2_looksAtBody_35 : decode cX2_looksAtBody 35 = .ok (.istore 4, 2) := dk_54 4 (dk_at dksX2_looksAtBody_1 11 rfl rfl)
theorem dX2_looksAtBody_37 : decode cX2_looksAtBody 37 = .ok (.iload 4, 2) := dk_21 4 (dk_at dksX2_looksAtBody_1 13 rfl rfl)
theorem dX2_looksAtBody_39 : decode cX2_looksAtBody 39 = .ok (.ifCond .ne 14, 3) := dk_154 0 14 (dk_at dksX2_looksAtBody_1 15 rfl rfl)
theorem dX2_looksAtBody_42 : decode cX2_looksAtBody 42 = .ok (.aload_n 0, 1) := dk_42 (dk_at dksX2_looksAtBody_1 18 rfl rfl)
theorem dX2_looksAtBody_43 : decode cX2_looksAtBody 43 = .ok (.iload_n 1, 1) := dk_27 (dk_at dksX2_looksAtBody_1 19 rfl rfl)
theorem dX2_looksAtBody_44 : decode cX2_looksAtBody 44 = .ok (.iload_n 3, 1) := dk_29 (dk_at dksX2_looksAtBody_1 20 rfl rfl)
theorem dX2_looksAtBody_45 : decode cX2_looksAtBody 45 = .ok (.invokevirtual 205, 3) := dk_182 0 205 (dk_at dksX2_looksAtBody_1 21 rfl rfl)
theorem dX2_looksAtBody_48 : decode cX2_looksAtBody 48 = .ok (.istore 4, 2) := dk_54 4 (dk_at dksX2_looksAtBody_2 0 rfl rfl)
theorem dX2_looksAtBody_50 : decode cX2_looksAtBody 50 = .ok (.goto 23, 3) := dk_167 0 23 (dk_at dksX2_looksAtBody_2 2 rfl rfl)
theorem dX2_looksAtBody_53 : decode cX2_looksAtBody 53 = .ok (.iload 4, 2) := dk_21 4 (dk_at dksX2_looksAtBody_2 5 rfl rfl)
theorem dX2_looksAtBody_55 : decode cX2_looksAtBody 55 = .ok (.iconst 1, 1) := dk_4 (dk_at dksX2_looksAtBody_2 7 rfl rfl)
theorem dX2_looksAtBody_56 : decode cX2_looksAtBody 56 = .ok (.if_icmp .eq 9, 3) := dk_159 0 9 (dk_at dksX2_looksAtBody_2 8 rfl rfl)
theorem dX2_looksAtBody_59 : decode cX2_looksAtBody 59 = .ok (.iload 4, 2) := dk_21 4 (dk_at dksX2_looksAtBody_2 11 rfl rfl)
theorem dX2_looksAtBody_61 : decode cX2_looksAtBody 61 = .ok (.iconst 5, 1) := dk_8 (dk_at dksX2_looksAtBody_2 13 rfl rfl)
theorem dX2_looksAtBody_62 : decode cX2_looksAtBody 62 = .ok (.if_icmp .ne 11, 3) := dk_160 0 11 (dk_at dksX2_looksAtBody_2 14 rfl rfl)
theorem dX2_looksAtBody_65 : decode cX2_looksAtBody 65 = .ok (.aload_n 0, 1) := dk_42 (dk_at dksX2_looksAtBody_2 17 rfl rfl)
theorem dX2_looksAtBody_66 : decode cX2_looksAtBody 66 = .ok (.iload_n 1, 1) := dk_27 (dk_at dksX2_looksAtBody_2 18 rfl rfl)
theorem dX2_looksAtBody_67 : decode cX2_looksAtBody 67 = .ok (.iload_n 3, 1) := dk_29 (dk_at dksX2_looksAtBody_2 19 rfl rfl)
theorem dX2_looksAtBody_68 : decode cX2_looksAtBody 68 = .ok (.invokevirtual 202, 3) := dk_182 0 202 (dk_at dksX2_looksAtBody_2 20 rfl rfl)
theorem dX2_looksAtBody_71 : decode cX2_looksAtBody 71 = .ok (.istore 4, 2) := dk_54 4 (dk_at dksX2_looksAtBody_3 0 rfl rfl)
theorem dX2_looksAtBody_73 : decode cX2_looksAtBody 73 = .ok (.iload 4, 2) := dk_21 4 (dk_at dksX2_looksAtBody_3 2 rfl rfl)
theorem dX2_looksAtBody_75 : decode cX2_looksAtBody 75 = .ok (.iconst 3, 1) := dk_6 (dk_at dksX2_looksAtBody_3 4 rfl rfl)
theorem dX2_looksAtBody_76 : decode cX2_looksAtBody 76 = .ok (.if_icmp .ne 11, 3) := dk_160 0 11 (dk_at dksX2_looksAtBody_3 5 rfl rfl)
theorem dX2_looksAtBody_79 : decode cX2_looksAtBody 79 = .ok (.aload_n 0, 1) := dk_42 (dk_at dksX2_looksAtBody_3 8 rfl rfl)
theorem dX2_looksAtBody_80 : decode cX2_looksAtBody 80 = .ok (.iload_n 1, 1) := dk_27 (dk_at dksX2_looksAtBody_3 9 rfl rfl)
theorem dX2_looksAtBody_81 : decode cX2_looksAtBody 81 = .ok (.iload_n 2, 1) := dk_28 (dk_at dksX2_looksAtBody_3 10 rfl rfl)
theorem dX2_looksAtBody_82 : decode cX2_looksAtBody 82 = .ok (.iconst 3, 1) := dk_6 (dk_at dksX2_looksAtBody_3 11 rfl rfl)
theorem dX2_looksAtBody_83 : decode cX2_looksAtBody 83 = .ok (.invokevirtual 184, 3) := dk_182 0 184 (dk_at dksX2_looksAtBody_3 12 rfl rfl)
theorem dX2_looksAtBody_86 : decode cX2_looksAtBody 86 = .ok (.ireturn, 1) := dk_172 (dk_at dksX2_looksAtBody_3 15 rfl rfl)
theorem dX2_looksAtBody_87 : decode cX2_looksAtBody 87 = .ok (.iload 4, 2) := dk_21 4 (dk_at dksX2_looksAtBody_3 16 rfl rfl)
theorem dX2_looksAtBody_89 : decode cX2_looksAtBody 89 = .ok (.iconst 2, 1) := dk_5 (dk_at dksX2_looksAtBody_3 18 rfl rfl)
theorem dX2_looksAtBody_90 : decode cX2_looksAtBody 90 = .ok (.if_icmp .eq 5, 3) := dk_159 0 5 (dk_at dksX2_looksAtBody_3 19 rfl rfl)
theorem dX2_looksAtBody_93 : decode cX2_looksAtBody 93 = .ok (.iconst 1, 1) := dk_4 (dk_at dksX2_looksAtBody_3 22 rfl rfl)
theorem dX2_looksAtBody_94 : decode cX2_looksAtBody 94 = .ok (.ireturn, 1) := dk_172 (dk_at dksX2_looksAtBody_3 23 rfl rfl)
theorem dX2_looksAtBody_95 : decode cX2_looksAtBody 95 = .ok (.aload_n 0, 1) := dk_42 (dk_at dksX2_looksAtBody_4 0 rfl rfl)
theorem dX2_looksAtBody_96 : decode cX2_looksAtBody 96 = .ok (.iload_n 1, 1) := dk_27 (dk_at dksX2_looksAtBody_4 1 rfl rfl)
theorem dX2_looksAtBody_97 : decode cX2_looksAtBody 97 = .ok (.iload_n 3, 1) := dk_29 (dk_at dksX2_looksAtBody_4 2 rfl rfl)
theorem dX2_looksAtBody_98 : decode cX2_looksAtBody 98 = .ok (.bipush 6, 2) := dk_16 6 (dk_at dksX2_looksAtBody_4 3 rfl rfl)
theorem dX2_looksAtBody_100 : decode cX2_looksAtBody 100 = .ok (.invokevirtual 171, 3) := dk_182 0 171 (dk_at dksX2_looksAtBody_4 5 rfl rfl)
theorem dX2_looksAtBody_103 : decode cX2_looksAtBody 103 = .ok (.istore_n 3, 1) := dk_62 (dk_at dksX2_looksAtBody_4 8 rfl rfl)
theorem dX2_looksAtBody_104 : decode cX2_looksAtBody 104 = .ok (.goto (-84), 3) := dk_167 255 172 (dk_at dksX2_looksAtBody_4 9 rfl rfl)
theorem dX2_looksAtBody_107 : decode cX2_looksAtBody 107 = .ok (.aload_n 0, 1) := dk_42 (dk_at dksX2_looksAtBody_4 12 rfl rfl)
theorem dX2_looksAtBody_108 : decode cX2_looksAtBody 108 = .ok (.iload_n 1, 1) := dk_27 (dk_at dksX2_looksAtBody_4 13 rfl rfl)
theorem dX2_looksAtBody_109 : decode cX2_looksAtBody 109 = .ok (.iload_n 2, 1) := dk_28 (dk_at dksX2_looksAtBody_4 14 rfl rfl)
theorem dX2_looksAtBody_110 : decode cX2_looksAtBody 110 = .ok (.iconst 2, 1) := dk_5 (dk_at dksX2_looksAtBody_4 15 rfl rfl)
theorem dX2_looksAtBody_111 : decode cX2_looksAtBody 111 = .ok (.invokevirtual 184, 3) := dk_182 0 184 (dk_at dksX2_looksAtBody_4 16 rfl rfl)
theorem dX2_looksAtBody_114 : decode cX2_looksAtBody 114 = .ok (.ireturn, 1) := dk_172 (dk_at dksX2_looksAtBody_4 19 rfl rfl)
theorem hd_X2_begins : (yX2_begins.cls ≠ "java/lang/invoke/MethodHandle" ∧ yX2_begins.cls ≠ "java/lang/invoke/VarHandle" ∧ (parseMethodDescriptor yX2_begins.desc).map (fun d => d.parameters.length) = some 2) := ⟨by decide +kernel, by decide +kernel, by decide +kernel⟩
def t_X2_looksAtBody_s (rec : Int32 → Int32 → TS → Option (Int32 × TS)) (p1 : Int32) (p2 : Int32) (w0 : TS) : Option (Int32 × TS) := gB2 (t_X2_at p1 p2 (nI 0) w0) fun x2 w1 => gB1 (tSt w1 5 x2 (nI 1)) fun w3 => gB2 (t_X2_nodePart p1 p2 (nI 5) w3) fun x5 w4 => gL3 (fun k10 (x7 : Int32) (x8 : Int32) (x9 : Int32) (w6 : TS) => if x9 < 0 then gB2 (t_X2_comesTo x7 x8 (nI 2) w6) fun x13 w12 => some (x13, w12) else gB2 (t_X2_at x7 x9 (nI 0) w6) fun x15 w14 => gB1 (tLd w14 5 x15) fun x16 => gBd (fun (x19 : Int32) (x20 : Int32) (x21 : Int32) (x22 : Int32) (w18 : TS) => if x22 = (nI 3) then gB2 (t_X2_comesTo x19 x20 (nI 3) w18) fun x28 w27 => some (x28, w27) else if x22 = (nI 2) then gB2 (t_X2_nodePart x19 x21 (nI 6) w18) fun x26 w25 => k10 x19 x20 x26 w25 else some ((nI 1), w18)) fun k17 => if x16 = 0 then gB2 (t_X2_begins rec x7 x9 w14) fun x40 w39 => k17 x7 x8 x9 x40 w39 else gBd (fun (x32 : Int32) (x33 : Int32) (x34 : Int32) (w31 : TS) => gB2 (t_X2_looks rec x32 x34 w31) fun x36 w35 => k17 x32 x33 x34 x36 w35) fun k30 => if x16 = (nI 1) then k30 x7 x8 x9 w14 else if x16 = (nI 5) then k30 x7 x8 x9 w14 else k17 x7 x8 x9 x16 w14) 20000 p1 p2 x5 w4
set_option maxHeartbeats 4000000 in
set_option maxRecDepth 100000 in
theorem kt_X2_looksAtBody_s {D : va_G} {dA : Nat → ClassId} {A : Nat → Prop} {K : Nat → Nat} {l : Launch} {wb : gw} {ad : Nat → Nat} (hinj : tInj ad) {h : Nat} {rec : Int32 → Int32 → TS → Option (Int32 × TS)} {B : Nat} (hrec : ∀ {h : Nat}, B ≤ h → ∀ {p1 : Int32} {p2 : Int32} {w0 ww : TS} {rr : Int32}, rec p1 p2 w0 = some (rr, ww) → gMet D dA A K l yX2_looksAtBody (ws_ yX2_looksAtBody cX2_looksAtBody 5 (some .int)) h [(ga (some (ad 0))), (gi p1), (gi p2)] (some (gi rr)) (twOf wb ad w0) (twOf wb ad ww)) (hb : 17 ≤ B) (hh : B + 4 ≤ h) {p1 : Int32} {p2 : Int32} {w0 ww : TS} {rr : Int32} (hf : t_X2_looksAtBody_s rec p1 p2 w0 = some (rr, ww)) : gMet D dA A K l yX2_looksAtBody (ws_ yX2_looksAtBody cX2_looksAtBody 5 (some .int)) h [(ga (some (ad 0))), (gi p1), (gi p2)] (some (gi rr)) (twOf wb ad w0) (twOf wb ad ww) := by
  refine j_start (own := RX2) (by decide +kernel) rfl (Nat.le_of_ble_eq_true rfl) ?_
  intro p e R s m args below meth c C hr hin hw
  unfold t_X2_looksAtBody_s at hf
  show gJ D dA A K p l e R s m args below meth c (gEnd D dA A K below args s (twOf wb ad w0) (some (gi rr)) (twOf wb ad ww)) 5 0 [(0, (ga (some (ad 0)))), (1, (gi p1)), (2, (gi p2))] [] (twOf wb ad w0)
  refine j_aload_n C dX2_looksAtBody_0 rfl ?_
  refine j_get (v := (ga (some (ad 5)))) C fl_X2_22_2 dX2_looksAtBody_1 (tw_F hinj rfl) ?_
  refine j_iload_n C dX2_looksAtBody_4 rfl ?_
  refine j_iload_n C dX2_looksAtBody_5 rfl ?_
  refine j_iconst (v := (nI 0)) C dX2_looksAtBody_6 (by decide) ?_
  replace hf := gB2_e hf
  obtain ⟨x2, w1, ew1, hf⟩ := hf
  refine j_callS (As := [(gi p1), (gi p2), (gi (nI 0))]) (rest := [(ga (some (ad 5)))]) (v := (some (gi x2))) C (by omega) (kt_X2_at hinj (by omega) ew1) q1801 q1802 q93 q1803 hd_X2_at (by decide) rfl (Nat.le_of_ble_eq_true rfl) dX2_looksAtBody_7 ?_
  refine j_iconst (v := (nI 1)) C dX2_looksAtBody_10 (by decide) ?_
  replace hf := gB1_e hf
  obtain ⟨w3, ew3, hf⟩ := hf
  refine j_iast C (tw_st hinj ew3) dX2_looksAtBody_11 ?_
  refine j_aload_n C dX2_looksAtBody_12 rfl ?_
  refine j_iload_n C dX2_looksAtBody_13 rfl ?_
  refine j_iload_n C dX2_looksAtBody_14 rfl ?_
  refine j_iconst (v := (nI 5)) C dX2_looksAtBody_15 (by decide) ?_
  replace hf := gB2_e hf
  obtain ⟨x5, w4, ew4, hf⟩ := hf
  refine j_callV (As := [(gi p1), (gi p2), (gi (nI 5))]) (rest := []) (v := (some (gi x5))) C (by omega) (kt_X2_nodePart hinj (by omega) ew4) (tw_cls hinj) rfl q1812 q1814 qs60 q93 q1815 ⟨rfl, hd_X2_nodePart⟩ (by decide) rfl (Nat.le_of_ble_eq_true rfl) dX2_looksAtBody_16 ?_
  refine j_istore_n (lv' := [(3, (gi x5)), (0, (ga (some (ad 0)))), (1, (gi p1)), (2, (gi p2))]) C dX2_looksAtBody_19 (by decide) rfl ?_
  refine j_sub (lv' := [(0, (ga (some (ad 0)))), (1, (gi p1)), (2, (gi p2)), (3, (gi x5))]) (gL_cons rfl (gL_cons rfl (gL_cons rfl (gL_cons rfl (gL_nil))))) ?_
  refine gL3_e (fun (x7 : Int32) (x8 : Int32) (x9 : Int32) (w6 : TS) => gJ D dA A K p l e R s m args below meth c (gEnd D dA A K below args s (twOf wb ad w0) (some (gi rr)) (twOf wb ad ww)) 5 20 [(0, (ga (some (ad 0)))), (1, (gi x7)), (2, (gi x8)), (3, (gi x9))] [] (twOf wb ad w6)) ?_ _ _ _ _ _ hf
  intro k10 jk10 x7 x8 x9 w6 hf
  refine j_iload_n C dX2_looksAtBody_20 rfl ?_
  refine j_if_lt (tgt := 107) C dX2_looksAtBody_21 (by decide) (fun c11 => ?_) (fun c11 => ?_)
  · replace hf := gIf_t hf c11
    refine j_aload_n C dX2_looksAtBody_107 rfl ?_
    refine j_iload_n C dX2_looksAtBody_108 rfl ?_
    refine j_iload_n C dX2_looksAtBody_109 rfl ?_
    refine j_iconst (v := (nI 2)) C dX2_looksAtBody_110 (by decide) ?_
    replace hf := gB2_e hf
    obtain ⟨x13, w12, ew12, hf⟩ := hf
    refine j_callV (As := [(gi x7), (gi x8), (gi (nI 2))]) (rest := []) (v := (some (gi x13))) C (by omega) (kt_X2_comesTo hinj (by omega) ew12) (tw_cls hinj) rfl q1844 q1846 qs68 q93 q1847 ⟨rfl, hd_X2_comesTo⟩ (by decide) rfl (Nat.le_of_ble_eq_true rfl) dX2_looksAtBody_111 ?_
    obtain ⟨rfl, rfl⟩ := gSome hf
    exact j_iret C hr hw dX2_looksAtBody_114
  · replace hf := gIf_f hf c11
    refine j_aload_n C dX2_looksAtBody_24 rfl ?_
    refine j_get (v := (ga (some (ad 5)))) C fl_X2_22_2 dX2_looksAtBody_25 (tw_F hinj rfl) ?_
    refine j_iload_n C dX2_looksAtBody_28 rfl ?_
    refine j_iload_n C dX2_looksAtBody_29 rfl ?_
    refine j_iconst (v := (nI 0)) C dX2_looksAtBody_30 (by decide) ?_
    replace hf := gB2_e hf
    obtain ⟨x15, w14, ew14, hf⟩ := hf
    refine j_callS (As := [(gi x7), (gi x9), (gi (nI 0))]) (rest := [(ga (some (ad 5)))]) (v := (some (gi x15))) C (by omega) (kt_X2_at hinj (by omega) ew14) q1801 q1802 q93 q1803 hd_X2_at (by decide) rfl (Nat.le_of_ble_eq_true rfl) dX2_looksAtBody_31 ?_
    replace hf := gB1_e hf
    obtain ⟨x16, ex16, hf⟩ := hf
    refine j_iald C (tw_ld hinj ex16) dX2_looksAtBody_34 ?_
    refine j_istore (lv' := [(4, (gi x16)), (0, (ga (some (ad 0)))), (1, (gi x7)), (2, (gi x8)), (3, (gi x9))]) C dX2_looksAtBody_35 (by decide) rfl ?_
    refine j_iload C dX2_looksAtBody_37 rfl ?_
    replace hf := gBd_x hf
    obtain ⟨k17, ek17, hf⟩ := hf
    have jk17 : ∀ (x19 : Int32) (x20 : Int32) (x21 : Int32) (x22 : Int32) (w18 : TS), k17 x19 x20 x21 x22 w18 = some (rr, ww) → gJ D dA A K p l e R s m args below meth c (gEnd D dA A K below args s (twOf wb ad w0) (some (gi rr)) (twOf wb ad ww)) 5 73 [(0, (ga (some (ad 0)))), (1, (gi x19)), (2, (gi x20)), (3, (gi x21)), (4, (gi x22))] [] (twOf wb ad w18) := by
      intro x19 x20 x21 x22 w18 hf
      rw [ek17] at hf
      dsimp only at hf
      refine j_iload C dX2_looksAtBody_73 rfl ?_
      refine j_iconst (v := (nI 3)) C dX2_looksAtBody_75 (by decide) ?_
      refine j_icmp_ne (tgt := 87) C dX2_looksAtBody_76 (by decide) (fun c23 => ?_) (fun c23 => ?_)
      · replace hf := gIf_f hf c23
        refine j_iload C dX2_looksAtBody_87 rfl ?_
        refine j_iconst (v := (nI 2)) C dX2_looksAtBody_89 (by decide) ?_
        refine j_icmp_eq (tgt := 95) C dX2_looksAtBody_90 (by decide) (fun c24 => ?_) (fun c24 => ?_)
        · replace hf := gIf_t hf c24
          refine j_aload_n C dX2_looksAtBody_95 rfl ?_
          refine j_iload_n C dX2_looksAtBody_96 rfl ?_
          refine j_iload_n C dX2_looksAtBody_97 rfl ?_
          refine j_bipush (v := (nI 6)) C dX2_looksAtBody_98 (by decide) ?_
          replace hf := gB2_e hf
          obtain ⟨x26, w25, ew25, hf⟩ := hf
          refine j_callV (As := [(gi x19), (gi x21), (gi (nI 6))]) (rest := []) (v := (some (gi x26))) C (by omega) (kt_X2_nodePart hinj (by omega) ew25) (tw_cls hinj) rfl q1812 q1814 qs60 q93 q1815 ⟨rfl, hd_X2_nodePart⟩ (by decide) rfl (Nat.le_of_ble_eq_true rfl) dX2_looksAtBody_100 ?_
          refine j_istore_n (lv' := [(3, (gi x26)), (0, (ga (some (ad 0)))), (1, (gi x19)), (2, (gi x20)), (4, (gi x22))]) C dX2_looksAtBody_103 (by decide) rfl ?_
          refine j_goto (tgt := 20) C dX2_looksAtBody_104 (by decide) ?_
          refine j_sub (lv' := [(0, (ga (some (ad 0)))), (1, (gi x19)), (2, (gi x20)), (3, (gi x26))]) (gL_cons rfl (gL_cons rfl (gL_cons rfl (gL_cons rfl (gL_nil))))) ?_
          exact jk10 _ _ _ _ hf
        · replace hf := gIf_f hf c24
          refine j_iconst (v := (nI 1)) C dX2_looksAtBody_93 (by decide) ?_
          obtain ⟨rfl, rfl⟩ := gSome hf
          exact j_iret C hr hw dX2_looksAtBody_94
      · replace hf := gIf_t hf c23
        refine j_aload_n C dX2_looksAtBody_79 rfl ?_
        refine j_iload_n C dX2_looksAtBody_80 rfl ?_
        refine j_iload_n C dX2_looksAtBody_81 rfl ?_
        refine j_iconst (v := (nI 3)) C dX2_looksAtBody_82 (by decide) ?_
        replace hf := gB2_e hf
        obtain ⟨x28, w27, ew27, hf⟩ := hf
        refine j_callV (As := [(gi x19), (gi x20), (gi (nI 3))]) (rest := []) (v := (some (gi x28))) C (by omega) (kt_X2_comesTo hinj (by omega) ew27) (tw_cls hinj) rfl q1844 q1846 qs68 q93 q1847 ⟨rfl, hd_X2_comesTo⟩ (by decide) rfl (Nat.le_of_ble_eq_true rfl) dX2_looksAtBody_83 ?_
        obtain ⟨rfl, rfl⟩ := gSome hf
        exact j_iret C hr hw dX2_looksAtBody_86
    clear ek17
    refine j_if_ne (tgt := 53) C dX2_looksAtBody_39 (by decide) (fun c29 => ?_) (fun c29 => ?_)
    · replace hf := gIf_f hf c29
      refine j_iload C dX2_looksAtBody_53 rfl ?_
      refine j_iconst (v := (nI 1)) C dX2_looksAtBody_55 (by decide) ?_
      replace hf := gBd_x hf
      obtain ⟨k30, ek30, hf⟩ := hf
      have jk30 : ∀ (x32 : Int32) (x33 : Int32) (x34 : Int32) (w31 : TS), k30 x32 x33 x34 w31 = some (rr, ww) → gJ D dA A K p l e R s m args below meth c (gEnd D dA A K below args s (twOf wb ad w0) (some (gi rr)) (twOf wb ad ww)) 5 65 [(0, (ga (some (ad 0)))), (1, (gi x32)), (2, (gi x33)), (3, (gi x34))] [] (twOf wb ad w31) := by
        intro x32 x33 x34 w31 hf
        rw [ek30] at hf
        dsimp only at hf
        refine j_aload_n C dX2_looksAtBody_65 rfl ?_
        refine j_iload_n C dX2_looksAtBody_66 rfl ?_
        refine j_iload_n C dX2_looksAtBody_67 rfl ?_
        replace hf := gB2_e hf
        obtain ⟨x36, w35, ew35, hf⟩ := hf
        refine j_callV (As := [(gi x32), (gi x34)]) (rest := []) (v := (some (gi x36))) C (by omega) (kt_X2_looks hinj hrec hb (by omega) ew35) (tw_cls hinj) rfl q1832 q1834 qs65 q93 q1835 ⟨rfl, hd_X2_looks⟩ (by decide) rfl (Nat.le_of_ble_eq_true rfl) dX2_looksAtBody_68 ?_
        refine j_istore (lv' := [(4, (gi x36)), (0, (ga (some (ad 0)))), (1, (gi x32)), (2, (gi x33)), (3, (gi x34))]) C dX2_looksAtBody_71 (by decide) rfl ?_
        refine j_sub (lv' := [(0, (ga (some (ad 0)))), (1, (gi x32)), (2, (gi x33)), (3, (gi x34)), (4, (gi x36))]) (gL_cons rfl (gL_cons rfl (gL_cons rfl (gL_cons rfl (gL_cons rfl (gL_nil)))))) ?_
        exact jk17 _ _ _ _ _ hf
      clear ek30
      refine j_icmp_eq (tgt := 65) C dX2_looksAtBody_56 (by decide) (fun c37 => ?_) (fun c37 => ?_)
      · replace hf := gIf_t hf c37
        refine j_sub (lv' := [(0, (ga (some (ad 0)))), (1, (gi x7)), (2, (gi x8)), (3, (gi x9))]) (gL_cons rfl (gL_cons rfl (gL_cons rfl (gL_cons rfl (gL_nil))))) ?_
        exact jk30 _ _ _ _ hf
      · replace hf := gIf_f hf c37
        refine j_iload C dX2_looksAtBody_59 rfl ?_
        refine j_iconst (v := (nI 5)) C dX2_looksAtBody_61 (by decide) ?_
        refine j_icmp_ne (tgt := 73) C dX2_looksAtBody_62 (by decide) (fun c38 => ?_) (fun c38 => ?_)
        · replace hf := gIf_f hf c38
          refine j_sub (lv' := [(0, (ga (some (ad 0)))), (1, (gi x7)), (2, (gi x8)), (3, (gi x9)), (4, (gi x16))]) (gL_cons rfl (gL_cons rfl (gL_cons rfl (gL_cons rfl (gL_cons rfl (gL_nil)))))) ?_
          exact jk17 _ _ _ _ _ hf
        · replace hf := gIf_t hf c38
          refine j_sub (lv' := [(0, (ga (some (ad 0)))), (1, (gi x7)), (2, (gi x8)), (3, (gi x9))]) (gL_cons rfl (gL_cons rfl (gL_cons rfl (gL_cons rfl (gL_nil))))) ?_
          exact jk30 _ _ _ _ hf
    · replace hf := gIf_t hf c29
      refine j_aload_n C dX2_looksAtBody_42 rfl ?_
      refine j_iload_n C dX2_looksAtBody_43 rfl ?_
      refine j_iload_n C dX2_looksAtBody_44 rfl ?_
      replace hf := gB2_e hf
      obtain ⟨x40, w39, ew39, hf⟩ := hf
      refine j_callV (As := [(gi x7), (gi x9)]) (rest := []) (v := (some (gi x40))) C (by omega) (kt_X2_begins hinj hrec hb (by omega) ew39) (tw_cls hinj) rfl q1820 q1822 qs62 q93 q1823 ⟨rfl, hd_X2_begins⟩ (by decide) rfl (Nat.le_of_ble_eq_true rfl) dX2_looksAtBody_45 ?_
      refine j_istore (lv' := [(4, (gi x40)), (0, (ga (some (ad 0)))), (1, (gi x7)), (2, (gi x8)), (3, (gi x9))]) C dX2_looksAtBody_48 (by decide) rfl ?_
      refine j_goto (tgt := 73) C dX2_looksAtBody_50 (by decide) ?_
      refine j_sub (lv' := [(0, (ga (some (ad 0)))), (1, (gi x7)), (2, (gi x8)), (3, (gi x9)), (4, (gi x40))]) (gL_cons rfl (gL_cons rfl (gL_cons rfl (gL_cons rfl (gL_cons rfl (gL_nil)))))) ?_
      exact jk17 _ _ _ _ _ hf
def t_X2_looksAtBody : Nat → Int32 → Int32 → TS → Option (Int32 × TS)
  | 0 => fun _ _ _ => none
  | d + 1 => t_X2_looksAtBody_s (t_X2_looksAtBody d)
theorem kt_X2_looksAtBody {D : va_G} {dA : Nat → ClassId} {A : Nat → Prop} {K : Nat → Nat} {l : Launch} {wb : gw} {ad : Nat → Nat} (hinj : tInj ad) : ∀ (d : Nat) {h : Nat}, 17 + 4 * d ≤ h → ∀ {p1 : Int32} {p2 : Int32} {w0 ww : TS} {rr : Int32}, t_X2_looksAtBody d p1 p2 w0 = some (rr, ww) → gMet D dA A K l yX2_looksAtBody (ws_ yX2_looksAtBody cX2_looksAtBody 5 (some .int)) h [(ga (some (ad 0))), (gi p1), (gi p2)] (some (gi rr)) (twOf wb ad w0) (twOf wb ad ww) := by
  intro d
  induction d with
  | zero => intro h hh p1 p2 w0 ww rr hf; cases hf
  | succ d ih =>
    intro h hh p1 p2 w0 ww rr hf
    exact kt_X2_looksAtBody_s hinj (rec := t_X2_looksAtBody d) (B := 17 + 4 * d) (fun hh => ih hh) (by omega) (by omega) hf
abbrev t_X2_begins_x (p1 : Int32) (p2 : Int32) (w0 : TS) : Option (Int32 × TS) := t_X2_begins (t_X2_looksAtBody 12) p1 p2 w0
theorem kt_X2_begins_x {D : va_G} {dA : Nat → ClassId} {A : Nat → Prop} {K : Nat → Nat} {l : Launch} {wb : gw} {ad : Nat → Nat} (hinj : tInj ad) {h : Nat} (hh : 68 ≤ h) {p1 : Int32} {p2 : Int32} {w0 ww : TS} {rr : Int32} (hf : t_X2_begins_x p1 p2 w0 = some (rr, ww)) : gMet D dA A K l yX2_begins (ws_ yX2_begins cX2_begins 6 (some .int)) h [(ga (some (ad 0))), (gi p1), (gi p2)] (some (gi rr)) (twOf wb ad w0) (twOf wb ad ww) := kt_X2_begins hinj (fun hh => kt_X2_looksAtBody hinj 12 hh) (B := 65) (by omega) (by omega) hf
abbrev t_X2_looks_x (p1 : Int32) (p2 : Int32) (w0 : TS) : Option (Int32 × TS) := t_X2_looks (t_X2_looksAtBody 12) p1 p2 w0
theorem kt_X2_looks_x {D : va_G} {dA : Nat → ClassId} {A : Nat → Prop} {K : Nat → Nat} {l : Launch} {wb : gw} {ad : Nat → Nat} (hinj : tInj ad) {h : Nat} (hh : 67 ≤ h) {p1 : Int32} {p2 : Int32} {w0 ww : TS} {rr : Int32} (hf : t_X2_looks_x p1 p2 w0 = some (rr, ww)) : gMet D dA A K l yX2_looks (ws_ yX2_looks cX2_looks 3 (some .int)) h [(ga (some (ad 0))), (gi p1), (gi p2)] (some (gi rr)) (twOf wb ad w0) (twOf wb ad ww) := kt_X2_looks hinj (fun hh => kt_X2_looksAtBody hinj 12 hh) (B := 65) (by omega) (by omega) hf
abbrev t_X2_looksAtParallel_x (p1 : Int32) (p2 : Int32) (w0 : TS) : Option (Int32 × TS) := t_X2_looksAtParallel (t_X2_looksAtBody 12) p1 p2 w0
theorem kt_X2_looksAtParallel_x {D : va_G} {dA : Nat → ClassId} {A : Nat → Prop} {K : Nat → Nat} {l : Launch} {wb : gw} {ad : Nat → Nat} (hinj : tInj ad) {h : Nat} (hh : 66 ≤ h) {p1 : Int32} {p2 : Int32} {w0 ww : TS} {rr : Int32} (hf : t_X2_looksAtParallel_x p1 p2 w0 = some (rr, ww)) : gMet D dA A K l yX2_looksAtParallel (ws_ yX2_looksAtParallel cX2_looksAtParallel 5 (some .int)) h [(ga (some (ad 0))), (gi p1), (gi p2)] (some (gi rr)) (twOf wb ad w0) (twOf wb ad ww) := kt_X2_looksAtParallel hinj (fun hh => kt_X2_looksAtBody hinj 12 hh) (B := 65) (by omega) (by omega) hf
def dkwX2_looksAt_4 : List UInt8 := [46, 158, 0, 7, 7, 167, 0, 4, 6, 182, 0, 233, 177]
abbrev dktX2_looksAt_4 : List UInt8 := dkwX2_looksAt_4 ++ []
def dkwX2_looksAt_3 : List UInt8 := [160, 0, 36, 42, 27, 3, 182, 0, 217, 153, 0, 27, 42, 27, 42, 180, 0, 22, 27, 16, 8, 184, 0, 163]
abbrev dktX2_looksAt_3 : List UInt8 := dkwX2_looksAt_3 ++ dktX2_looksAt_4
def dkwX2_looksAt_2 : List UInt8 := [16, 7, 184, 0, 169, 2, 79, 42, 27, 5, 182, 0, 233, 42, 180, 0, 22, 27, 4, 184, 0, 163, 46, 5]
abbrev dktX2_looksAt_2 : List UInt8 := dkwX2_looksAt_2 ++ dktX2_looksAt_3
def dkwX2_looksAt_1 : List UInt8 := [160, 0, 12, 42, 27, 4, 182, 0, 233, 167, 0, 27, 28, 6, 160, 0, 22, 42, 180, 0, 22, 27, 3]
abbrev dktX2_looksAt_1 : List UInt8 := dkwX2_looksAt_1 ++ dktX2_looksAt_2
def dkwX2_looksAt_0 : List UInt8 := [42, 180, 0, 22, 27, 4, 184, 0, 163, 46, 154, 0, 48, 42, 27, 3, 182, 0, 196, 61, 28, 5]
abbrev dktX2_looksAt_0 : List UInt8 := dkwX2_looksAt_0 ++ dktX2_looksAt_1
theorem dksX2_looksAt_0 : cX2_looksAt.data.toList.drop 0 = dktX2_looksAt_0 := by decide +kernel
theorem dksX2_looksAt_1 : cX2_looksAt.data.toList.drop 22 = dktX2_looksAt_1 := dk_seg dksX2_looksAt_0 22 rfl rfl
theorem dksX2_looksAt_2 : cX2_looksAt.data.toList.drop 45 = dktX2_looksAt_2 := dk_seg dksX2_looksAt_1 23 rfl rfl
theorem dksX2_looksAt_3 : cX2_looksAt.data.toList.drop 69 = dktX2_looksAt_3 := dk_seg dksX2_looksAt_2 24 rfl rfl
theorem dksX2_looksAt_4 : cX2_looksAt.data.toList.drop 93 = dktX2_looksAt_4 := dk_seg dksX2_looksAt_3 24 rfl rfl
theorem dX2_looksAt_0 : decode cX2_looksAt 0 = .ok (.aload_n 0, 1) := dk_42 (dk_at dksX2_looksAt_0 0 rfl rfl)
theorem dX2_looksAt_1 : decode cX2_looksAt 1 = .ok (.getfield 22, 3) := dk_180 0 22 (dk_at dksX2_looksAt_0 1 rfl rfl)
theorem dX2_looksAt_4 : decode cX2_looksAt 4 = .ok (.iload_n 1, 1) := dk_27 (dk_at dksX2_looksAt_0 4 rfl rfl)
theorem dX2_looksAt_5 : decode cX2_looksAt 5 = .ok (.iconst 1, 1) := dk_4 (dk_at dksX2_looksAt_0 5 rfl rfl)
theorem dX2_looksAt_6 : decode cX2_looksAt 6 = .ok (.invokestatic 163, 3) := dk_184 0 163 (dk_at dksX2_looksAt_0 6 rfl rfl)
theorem dX2_looksAt_9 : decode cX2_looksAt 9 = .ok (.iaload, 1) := dk_46 (dk_at dksX2_looksAt_0 9 rfl rfl)
theorem dX2_looksAt_10 : decode cX2_looksAt 10 = .ok (.ifCond .ne 48, 3) := dk_154 0 48 (dk_at dksX2_looksAt_0 10 rfl rfl)
theorem dX2_looksAt_13 : decode cX2_looksAt 13 = .ok (.aload_n 0, 1) := dk_42 (dk_at dksX2_looksAt_0 13 rfl rfl)
theorem dX2_looksAt_14 : decode cX2_looksAt 14 = .ok (.iload_n 1, 1) := dk_27 (dk_at dksX2_looksAt_0 14 rfl rfl)
theorem dX2_looksAt_15 : decode cX2_looksAt 15 = .ok (.iconst 0, 1) := dk_3 (dk_at dksX2_looksAt_0 15 rfl rfl)
theorem dX2_looksAt_16 : decode cX2_looksAt 16 = .ok (.invokevirtual 196, 3) := dk_182 0 196 (dk_at dksX2_looksAt_0 16 rfl rfl)
theorem dX2_looksAt_19 : decode cX2_looksAt 19 = .ok (.istore_n 2, 1) := dk_61 (dk_at dksX2_looksAt_0 19 rfl rfl)
theorem dX2_looksAt_20 : decode cX2_looksAt 20 = .ok (.iload_n 2, 1) := dk_28 (dk_at dksX2_looksAt_0 20 rfl rfl)
theorem dX2_looksAt_21 : decode cX2_looksAt 21 = .ok (.iconst 2, 1) := dk_5 (dk_at dksX2_looksAt_0 21 rfl rfl)
theorem dX2_looksAt_22 : decode cX2_looksAt 22 = .ok (.if_icmp .ne 12, 3) := dk_160 0 12 (dk_at dksX2_looksAt_1 0 rfl rfl)
theorem dX2_looksAt_25 : decode cX2_looksAt 25 = .ok (.aload_n 0, 1) := dk_42 (dk_at dksX2_looksAt_1 3 rfl rfl)
theorem dX2_looksAt_26 : decode cX2_looksAt 26 = .ok (.iload_n 1, 1) := dk_27 (dk_at dksX2_looksAt_1 4 rfl rfl)
theorem dX2_looksAt_27 : decode cX2_looksAt 27 = .ok (.iconst 1, 1) := dk_4 (dk_at dksX2_looksAt_1 5 rfl rfl)
theorem dX2_looksAt_28 : decode cX2_looksAt 28 = .ok (.invokevirtual 233, 3) := dk_182 0 233 (dk_at dksX2_looksAt_1 6 rfl rfl)
theorem dX2_looksAt_31 : decode cX2_looksAt 31 = .ok (.goto 27, 3) := dk_167 0 27 (dk_at dksX2_looksAt_1 9 rfl rfl)
theorem dX2_looksAt_34 : decode cX2_looksAt 34 = .ok (.iload_n 2, 1) := dk_28 (dk_at dksX2_looksAt_1 12 rfl rfl)
theorem dX2_looksAt_35 : decode cX2_looksAt 35 = .ok (.iconst 3, 1) := dk_6 (dk_at dksX2_looksAt_1 13 rfl rfl)
theorem dX2_looksAt_36 : decode cX2_looksAt 36 = .ok (.if_icmp .ne 22, 3) := dk_160 0 22 (dk_at dksX2_looksAt_1 14 rfl rfl)
theorem dX2_looksAt_39 : decode cX2_looksAt 39 = .ok (.aload_n 0, 1) := dk_42 (dk_at dksX2_looksAt_1 17 rfl rfl)
theorem dX2_looksAt_40 : decode cX2_looksAt 40 = .ok (.getfield 22, 3) := dk_180 0 22 (dk_at dksX2_looksAt_1 18 rfl rfl)
theorem dX2_looksAt_43 : decode cX2_looksAt 43 = .ok (.iload_n 1, 1) := dk_27 (dk_at dksX2_looksAt_1 21 rfl rfl)
theorem dX2_looksAt_44 : decode cX2_looksAt 44 = .ok (.iconst 0, 1) := dk_3 (dk_at dksX2_looksAt_1 22 rfl rfl)
theorem dX2_looksAt_45 : decode cX2_looksAt 45 = .ok (.bipush 7, 2) := dk_16 7 (dk_at dksX2_looksAt_2 0 rfl rfl)
theorem dX2_looksAt_47 : decode cX2_looksAt 47 = .ok (.invokestatic 169, 3) := dk_184 0 169 (dk_at dksX2_looksAt_2 2 rfl rfl)
theorem dX2_looksAt_50 : decode cX2_looksAt 50 = .ok (.iconst (-1), 1) := dk_2 (dk_at dksX2_looksAt_2 5 rfl rfl)
theorem dX2_looksAt_51 : decode cX2_looksAt 51 = .ok (.iastore, 1) := dk_79 (dk_at dksX2_looksAt_2 6 rfl rfl)
theorem dX2_looksAt_52 : decode cX2_looksAt 52 = .ok (.aload_n 0, 1) := dk_42 (dk_at dksX2_looksAt_2 7 rfl rfl)
theorem dX2_looksAt_53 : decode cX2_looksAt 53 = .ok (.iload_n 1, 1) := dk_27 (dk_at dksX2_looksAt_2 8 rfl rfl)
theorem dX2_looksAt_54 : decode cX2_looksAt 54 = .ok (.iconst 2, 1) := dk_5 (dk_at dksX2_looksAt_2 9 rfl rfl)
theorem dX2_looksAt_55 : decode cX2_looksAt 55 = .ok (.invokevirtual 233, 3) := dk_182 0 233 (dk_at dksX2_looksAt_2 10 rfl rfl)
theorem dX2_looksAt_58 : decode cX2_looksAt 58 = .ok (.aload_n 0, 1) := dk_42 (dk_at dksX2_looksAt_2 13 rfl rfl)
theorem dX2_looksAt_59 : decode cX2_looksAt 59 = .ok (.getfield 22, 3) := dk_180 0 22 (dk_at dksX2_looksAt_2 14 rfl rfl)
theorem dX2_looksAt_62 : decode cX2_looksAt 62 = .ok (.iload_n 1, 1) := dk_27 (dk_at dksX2_looksAt_2 17 rfl rfl)
theorem dX2_looksAt_63 : decode cX2_looksAt 63 = .ok (.iconst 1, 1) := dk_4 (dk_at dksX2_looksAt_2 18 rfl rfl)
theorem dX2_looksAt_64 : decode cX2_looksAt 64 = .ok (.invokestatic 163, 3) := dk_184 0 163 (dk_at dksX2_looksAt_2 19 rfl rfl)
theorem dX2_looksAt_67 : decode cX2_looksAt 67 = .ok (.iaload, 1) := dk_46 (dk_at dksX2_looksAt_2 22 rfl rfl)
theorem dX2_looksAt_68 : decode cX2_looksAt 68 = .ok (.iconst 2, 1) := dk_5 (dk_at dksX2_looksAt_2 23 rfl rfl)
theorem dX2_looksAt_69 : decode cX2_looksAt 69 = .ok (.if_icmp .ne 36, 3) := dk_160 0 36 (dk_at dksX2_looksAt_3 0 rfl rfl)
theorem dX2_looksAt_72 : decode cX2_looksAt 72 = .ok (.aload_n 0, 1) := dk_42 (dk_at dksX2_looksAt_3 3 rfl rfl)
theorem dX2_looksAt_73 : decode cX2_looksAt 73 = .ok (.iload_n 1, 1) := dk_27 (dk_at dksX2_looksAt_3 4 rfl rfl)
theorem dX2_looksAt_74 : decode cX2_looksAt 74 = .ok (.iconst 0, 1) := dk_3 (dk_at dksX2_looksAt_3 5 rfl rfl)
theorem dX2_looksAt_75 : decode cX2_looksAt 75 = .ok (.invokevirtual 217, 3) := dk_182 0 217 (dk_at dksX2_looksAt_3 6 rfl rfl)
theorem dX2_looksAt_78 : decode cX2_looksAt 78 = .ok (.ifCond .eq 27, 3) := dk_153 0 27 (dk_at dksX2_looksAt_3 9 rfl rfl)
theorem dX2_looksAt_81 : decode cX2_looksAt 81 = .ok (.aload_n 0, 1) := dk_42 (dk_at dksX2_looksAt_3 12 rfl rfl)
theorem dX2_looksAt_82 : decode cX2_looksAt 82 = .ok (.iload_n 1, 1) := dk_27 (dk_at dksX2_looksAt_3 13 rfl rfl)
theorem dX2_looksAt_83 : decode cX2_looksAt 83 = .ok (.aload_n 0, 1) := dk_42 (dk_at dksX2_looksAt_3 14 rfl rfl)
theorem dX2_looksAt_84 : decode cX2_looksAt 84 = .ok (.getfield 22, 3) := dk_180 0 22 (dk_at dksX2_looksAt_3 15 rfl rfl)
theorem dX2_looksAt_87 : decode cX2_looksAt 87 = .ok (.iload_n 1, 1) := dk_27 (dk_at dksX2_looksAt_3 18 rfl rfl)
theorem dX2_looksAt_88 : decode cX2_looksAt 88 = .ok (.bipush 8, 2) := dk_16 8 (dk_at dksX2_looksAt_3 19 rfl rfl)
theorem dX2_looksAt_90 : decode cX2_looksAt 90 = .ok (.invokestatic 163, 3) := dk_184 0 163 (dk_at dksX2_looksAt_3 21 rfl rfl)
theorem dX2_looksAt_93 : decode cX2_looksAt 93 = .ok (.iaload, 1) := dk_46 (dk_at dksX2_looksAt_4 0 rfl rfl)
theorem dX2_looksAt_94 : decode cX2_looksAt 94 = .ok (.ifCond .le 7, 3) := dk_158 0 7 (dk_at dksX2_looksAt_4 1 rfl rfl)
theorem dX2_looksAt_97 : decode cX2_looksAt 97 = .ok (.iconst 4, 1) := dk_7 (dk_at dksX2_looksAt_4 4 rfl rfl)
theorem dX2_looksAt_98 : decode cX2_looksAt 98 = .ok (.goto 4, 3) := dk_167 0 4 (dk_at dksX2_looksAt_4 5 rfl rfl)
theorem dX2_looksAt_101 : decode cX2_looksAt 101 = .ok (.iconst 3, 1) := dk_6 (dk_at dksX2_looksAt_4 8 rfl rfl)
theorem dX2_looksAt_102 : decode cX2_looksAt 102 = .ok (.invokevirtual 233, 3) := dk_182 0 233 (dk_at dksX2_looksAt_4 9 rfl rfl)
theorem dX2_looksAt_105 : decode cX2_looksAt 105 = .ok (.return_, 1) := dk_177 (dk_at dksX2_looksAt_4 12 rfl rfl)
theorem hd_X2_becomes : (yX2_becomes.cls ≠ "java/lang/invoke/MethodHandle" ∧ yX2_becomes.cls ≠ "java/lang/invoke/VarHandle" ∧ (parseMethodDescriptor yX2_becomes.desc).map (fun d => d.parameters.length) = some 2) := ⟨by decide +kernel, by decide +kernel, by decide +kernel⟩
def t_X2_looksAt (p1 : Int32) (w0 : TS) : Option (Unit × TS) := gB2 (t_X2_of p1 (nI 1) w0) fun x2 w1 => gB1 (tLd w1 5 x2) fun x3 => gBd (fun (x6 : Int32) (w5 : TS) => gB2 (t_X2_of x6 (nI 1) w5) fun x8 w7 => gB1 (tLd w7 5 x8) fun x9 => if x9 = (nI 2) then gB2 (t_X2_compensates x6 (nI 0) w7) fun x12 w11 => if x12 = 0 then some ((), w11) else gB2 (t_X2_of x6 (nI 8) w11) fun x15 w14 => gB1 (tLd w14 5 x15) fun x16 => gBd (fun (x19 : Int32) (x20 : Int32) (w18 : TS) => gB2 (t_X2_becomes x19 x20 w18) fun _ w21 => some ((), w21)) fun k17 => if x16 ≤ 0 then k17 x6 (nI 3) w14 else k17 x6 (nI 4) w14 else some ((), w7)) fun k4 => if x3 = 0 then gB2 (t_X2_looksAtBody 12 p1 (nI 0) w1) fun x25 w24 => if x25 = (nI 2) then gB2 (t_X2_becomes p1 (nI 1) w24) fun _ w32 => k4 p1 w32 else if x25 = (nI 3) then gB2 (t_X2_at p1 (nI 0) (nI 7) w24) fun x29 w28 => gB1 (tSt w28 5 x29 (-1)) fun w30 => gB2 (t_X2_becomes p1 (nI 2) w30) fun _ w31 => k4 p1 w31 else k4 p1 w24 else k4 p1 w1
set_option maxHeartbeats 4000000 in
set_option maxRecDepth 100000 in
theorem kt_X2_looksAt {D : va_G} {dA : Nat → ClassId} {A : Nat → Prop} {K : Nat → Nat} {l : Launch} {wb : gw} {ad : Nat → Nat} (hinj : tInj ad) {h : Nat} (hh : 66 ≤ h) {p1 : Int32} {w0 ww : TS} {rr : Unit} (hf : t_X2_looksAt p1 w0 = some (rr, ww)) : gMet D dA A K l yX2_looksAt (ws_ yX2_looksAt cX2_looksAt 3 none) h [(ga (some (ad 0))), (gi p1)] none (twOf wb ad w0) (twOf wb ad ww) := by
  refine j_start (own := RX2) (by decide +kernel) rfl (Nat.le_of_ble_eq_true rfl) ?_
  intro p e R s m args below meth c C hr hin hw
  unfold t_X2_looksAt at hf
  show gJ D dA A K p l e R s m args below meth c (gEnd D dA A K below args s (twOf wb ad w0) none (twOf wb ad ww)) 3 0 [(0, (ga (some (ad 0)))), (1, (gi p1))] [] (twOf wb ad w0)
  refine j_aload_n C dX2_looksAt_0 rfl ?_
  refine j_get (v := (ga (some (ad 5)))) C fl_X2_22_2 dX2_looksAt_1 (tw_F hinj rfl) ?_
  refine j_iload_n C dX2_looksAt_4 rfl ?_
  refine j_iconst (v := (nI 1)) C dX2_looksAt_5 (by decide) ?_
  replace hf := gB2_e hf
  obtain ⟨x2, w1, ew1, hf⟩ := hf
  refine j_callS (As := [(gi p1), (gi (nI 1))]) (rest := [(ga (some (ad 5)))]) (v := (some (gi x2))) C (by omega) (kt_X2_of hinj (by omega) ew1) q1798 q1799 q93 q1800 hd_X2_of (by decide) rfl (Nat.le_of_ble_eq_true rfl) dX2_looksAt_6 ?_
  replace hf := gB1_e hf
  obtain ⟨x3, ex3, hf⟩ := hf
  refine j_iald C (tw_ld hinj ex3) dX2_looksAt_9 ?_
  replace hf := gBd_x hf
  obtain ⟨k4, ek4, hf⟩ := hf
  have jk4 : ∀ (x6 : Int32) (w5 : TS), k4 x6 w5 = some (rr, ww) → gJ D dA A K p l e R s m args below meth c (gEnd D dA A K below args s (twOf wb ad w0) none (twOf wb ad ww)) 3 58 [(0, (ga (some (ad 0)))), (1, (gi x6))] [] (twOf wb ad w5) := by
    intro x6 w5 hf
    rw [ek4] at hf
    dsimp only at hf
    refine j_aload_n C dX2_looksAt_58 rfl ?_
    refine j_get (v := (ga (some (ad 5)))) C fl_X2_22_2 dX2_looksAt_59 (tw_F hinj rfl) ?_
    refine j_iload_n C dX2_looksAt_62 rfl ?_
    refine j_iconst (v := (nI 1)) C dX2_looksAt_63 (by decide) ?_
    replace hf := gB2_e hf
    obtain ⟨x8, w7, ew7, hf⟩ := hf
    refine j_callS (As := [(gi x6), (gi (nI 1))]) (rest := [(ga (some (ad 5)))]) (v := (some (gi x8))) C (by omega) (kt_X2_of hinj (by omega) ew7) q1798 q1799 q93 q1800 hd_X2_of (by decide) rfl (Nat.le_of_ble_eq_true rfl) dX2_looksAt_64 ?_
    replace hf := gB1_e hf
    obtain ⟨x9, ex9, hf⟩ := hf
    refine j_iald C (tw_ld hinj ex9) dX2_looksAt_67 ?_
    refine j_iconst (v := (nI 2)) C dX2_looksAt_68 (by decide) ?_
    refine j_icmp_ne (tgt := 105) C dX2_looksAt_69 (by decide) (fun c10 => ?_) (fun c10 => ?_)
    · replace hf := gIf_f hf c10
      obtain ⟨rfl, rfl⟩ := gSome hf
      exact j_vret C hr hw dX2_looksAt_105
    · replace hf := gIf_t hf c10
      refine j_aload_n C dX2_looksAt_72 rfl ?_
      refine j_iload_n C dX2_looksAt_73 rfl ?_
      refine j_iconst (v := (nI 0)) C dX2_looksAt_74 (by decide) ?_
      replace hf := gB2_e hf
      obtain ⟨x12, w11, ew11, hf⟩ := hf
      refine j_callV (As := [(gi x6), (gi (nI 0))]) (rest := []) (v := (some (gi x12))) C (by omega) (kt_X2_compensates hinj (by omega) ew11) (tw_cls hinj) rfl q1872 q1874 qs75 q93 q1875 ⟨rfl, hd_X2_compensates⟩ (by decide) rfl (Nat.le_of_ble_eq_true rfl) dX2_looksAt_75 ?_
      refine j_if_eq (tgt := 105) C dX2_looksAt_78 (by decide) (fun c13 => ?_) (fun c13 => ?_)
      · replace hf := gIf_t hf c13
        obtain ⟨rfl, rfl⟩ := gSome hf
        exact j_vret C hr hw dX2_looksAt_105
      · replace hf := gIf_f hf c13
        refine j_aload_n C dX2_looksAt_81 rfl ?_
        refine j_iload_n C dX2_looksAt_82 rfl ?_
        refine j_aload_n C dX2_looksAt_83 rfl ?_
        refine j_get (v := (ga (some (ad 5)))) C fl_X2_22_2 dX2_looksAt_84 (tw_F hinj rfl) ?_
        refine j_iload_n C dX2_looksAt_87 rfl ?_
        refine j_bipush (v := (nI 8)) C dX2_looksAt_88 (by decide) ?_
        replace hf := gB2_e hf
        obtain ⟨x15, w14, ew14, hf⟩ := hf
        refine j_callS (As := [(gi x6), (gi (nI 8))]) (rest := [(ga (some (ad 5))), (gi x6), (ga (some (ad 0)))]) (v := (some (gi x15))) C (by omega) (kt_X2_of hinj (by omega) ew14) q1798 q1799 q93 q1800 hd_X2_of (by decide) rfl (Nat.le_of_ble_eq_true rfl) dX2_looksAt_90 ?_
        replace hf := gB1_e hf
        obtain ⟨x16, ex16, hf⟩ := hf
        refine j_iald C (tw_ld hinj ex16) dX2_looksAt_93 ?_
        replace hf := gBd_x hf
        obtain ⟨k17, ek17, hf⟩ := hf
        have jk17 : ∀ (x19 : Int32) (x20 : Int32) (w18 : TS), k17 x19 x20 w18 = some (rr, ww) → gJ D dA A K p l e R s m args below meth c (gEnd D dA A K below args s (twOf wb ad w0) none (twOf wb ad ww)) 3 102 [] [(gi x20), (gi x19), (ga (some (ad 0)))] (twOf wb ad w18) := by
          intro x19 x20 w18 hf
          rw [ek17] at hf
          dsimp only at hf
          replace hf := gB2_e hf
          obtain ⟨_, w21, ew21, hf⟩ := hf
          refine j_callV (As := [(gi x19), (gi x20)]) (rest := []) (v := none) C (by omega) (kt_X2_becomes hinj (by omega) ew21) (tw_cls hinj) rfl q1892 q1894 qs80 q93 q1895 ⟨rfl, hd_X2_becomes⟩ (by decide) rfl (Nat.le_of_ble_eq_true rfl) dX2_looksAt_102 ?_
          obtain ⟨rfl, rfl⟩ := gSome hf
          exact j_vret C hr hw dX2_looksAt_105
        clear ek17
        refine j_if_le (tgt := 101) C dX2_looksAt_94 (by decide) (fun c22 => ?_) (fun c22 => ?_)
        · replace hf := gIf_t hf c22
          refine j_iconst (v := (nI 3)) C dX2_looksAt_101 (by decide) ?_
          refine j_sub (lv' := []) (gL_nil) ?_
          exact jk17 _ _ _ hf
        · replace hf := gIf_f hf c22
          refine j_iconst (v := (nI 4)) C dX2_looksAt_97 (by decide) ?_
          refine j_goto (tgt := 102) C dX2_looksAt_98 (by decide) ?_
          refine j_sub (lv' := []) (gL_nil) ?_
          exact jk17 _ _ _ hf
  clear ek4
  refine j_if_ne (tgt := 58) C dX2_looksAt_10 (by decide) (fun c23 => ?_) (fun c23 => ?_)
  · replace hf := gIf_f hf c23
    exact jk4 _ _ hf
  · replace hf := gIf_t hf c23
    refine j_aload_n C dX2_looksAt_13 rfl ?_
    refine j_iload_n C dX2_looksAt_14 rfl ?_
    refine j_iconst (v := (nI 0)) C dX2_looksAt_15 (by decide) ?_
    replace hf := gB2_e hf
    obtain ⟨x25, w24, ew24, hf⟩ := hf
    refine j_callV (As := [(gi p1), (gi (nI 0))]) (rest := []) (v := (some (gi x25))) C (by omega) (kt_X2_looksAtBody hinj 12 (by omega) ew24) (tw_cls hinj) rfl q1808 q1810 qs59 q93 q1811 ⟨rfl, hd_X2_looksAtBody⟩ (by decide) rfl (Nat.le_of_ble_eq_true rfl) dX2_looksAt_16 ?_
    refine j_istore_n (lv' := [(2, (gi x25)), (0, (ga (some (ad 0)))), (1, (gi p1))]) C dX2_looksAt_19 (by decide) rfl ?_
    refine j_iload_n C dX2_looksAt_20 rfl ?_
    refine j_iconst (v := (nI 2)) C dX2_looksAt_21 (by decide) ?_
    refine j_icmp_ne (tgt := 34) C dX2_looksAt_22 (by decide) (fun c26 => ?_) (fun c26 => ?_)
    · replace hf := gIf_f hf c26
      refine j_iload_n C dX2_looksAt_34 rfl ?_
      refine j_iconst (v := (nI 3)) C dX2_looksAt_35 (by decide) ?_
      refine j_icmp_ne (tgt := 58) C dX2_looksAt_36 (by decide) (fun c27 => ?_) (fun c27 => ?_)
      · replace hf := gIf_f hf c27
        refine j_sub (lv' := [(0, (ga (some (ad 0)))), (1, (gi p1))]) (gL_cons rfl (gL_cons rfl (gL_nil))) ?_
        exact jk4 _ _ hf
      · replace hf := gIf_t hf c27
        refine j_aload_n C dX2_looksAt_39 rfl ?_
        refine j_get (v := (ga (some (ad 5)))) C fl_X2_22_2 dX2_looksAt_40 (tw_F hinj rfl) ?_
        refine j_iload_n C dX2_looksAt_43 rfl ?_
        refine j_iconst (v := (nI 0)) C dX2_looksAt_44 (by decide) ?_
        refine j_bipush (v := (nI 7)) C dX2_looksAt_45 (by decide) ?_
        replace hf := gB2_e hf
        obtain ⟨x29, w28, ew28, hf⟩ := hf
        refine j_callS (As := [(gi p1), (gi (nI 0)), (gi (nI 7))]) (rest := [(ga (some (ad 5)))]) (v := (some (gi x29))) C (by omega) (kt_X2_at hinj (by omega) ew28) q1801 q1802 q93 q1803 hd_X2_at (by decide) rfl (Nat.le_of_ble_eq_true rfl) dX2_looksAt_47 ?_
        refine j_iconst (v := (-1)) C dX2_looksAt_50 (by decide) ?_
        replace hf := gB1_e hf
        obtain ⟨w30, ew30, hf⟩ := hf
        refine j_iast C (tw_st hinj ew30) dX2_looksAt_51 ?_
        refine j_aload_n C dX2_looksAt_52 rfl ?_
        refine j_iload_n C dX2_looksAt_53 rfl ?_
        refine j_iconst (v := (nI 2)) C dX2_looksAt_54 (by decide) ?_
        replace hf := gB2_e hf
        obtain ⟨_, w31, ew31, hf⟩ := hf
        refine j_callV (As := [(gi p1), (gi (nI 2))]) (rest := []) (v := none) C (by omega) (kt_X2_becomes hinj (by omega) ew31) (tw_cls hinj) rfl q1892 q1894 qs80 q93 q1895 ⟨rfl, hd_X2_becomes⟩ (by decide) rfl (Nat.le_of_ble_eq_true rfl) dX2_looksAt_55 ?_
        refine j_sub (lv' := [(0, (ga (some (ad 0)))), (1, (gi p1))]) (gL_cons rfl (gL_cons rfl (gL_nil))) ?_
        exact jk4 _ _ hf
    · replace hf := gIf_t hf c26
      refine j_aload_n C dX2_looksAt_25 rfl ?_
      refine j_iload_n C dX2_looksAt_26 rfl ?_
      refine j_iconst (v := (nI 1)) C dX2_looksAt_27 (by decide) ?_
      replace hf := gB2_e hf
      obtain ⟨_, w32, ew32, hf⟩ := hf
      refine j_callV (As := [(gi p1), (gi (nI 1))]) (rest := []) (v := none) C (by omega) (kt_X2_becomes hinj (by omega) ew32) (tw_cls hinj) rfl q1892 q1894 qs80 q93 q1895 ⟨rfl, hd_X2_becomes⟩ (by decide) rfl (Nat.le_of_ble_eq_true rfl) dX2_looksAt_28 ?_
      refine j_goto (tgt := 58) C dX2_looksAt_31 (by decide) ?_
      refine j_sub (lv' := [(0, (ga (some (ad 0)))), (1, (gi p1))]) (gL_cons rfl (gL_cons rfl (gL_nil))) ?_
      exact jk4 _ _ hf
def dkwX2_abort_2 : List UInt8 := [27, 4, 184, 0, 163, 46, 172]
abbrev dktX2_abort_2 : List UInt8 := dkwX2_abort_2 ++ []
def dkwX2_abort_1 : List UInt8 := [16, 253, 172, 42, 27, 3, 182, 0, 208, 42, 27, 5, 182, 0, 233, 42, 27, 182, 0, 239, 42, 180, 0, 22]
abbrev dktX2_abort_1 : List UInt8 := dkwX2_abort_1 ++ dktX2_abort_2
def dkwX2_abort_0 : List UInt8 := [42, 27, 182, 0, 243, 154, 0, 5, 2, 172, 42, 180, 0, 22, 27, 4, 184, 0, 163, 46, 153, 0, 6]
abbrev dktX2_abort_0 : List UInt8 := dkwX2_abort_0 ++ dktX2_abort_1
theorem dksX2_abort_0 : cX2_abort.data.toList.drop 0 = dktX2_abort_0 := by decide +kernel
theorem dksX2_abort_1 : cX2_abort.data.toList.drop 23 = dktX2_abort_1 := dk_seg dksX2_abort_0 23 rfl rfl
theorem dksX2_abort_2 : cX2_abort.data.toList.drop 47 = dktX2_abort_2 := dk_seg dksX2_abort_1 24 rfl rfl
theorem dX2_abort_0 : decode cX2_abort 0 = .ok (.aload_n 0, 1) := dk_42 (dk_at dksX2_abort_0 0 rfl rfl)
theorem dX2_abort_1 : decode cX2_abort 1 = .ok (.iload_n 1, 1) := dk_27 (dk_at dksX2_abort_0 1 rfl rfl)
theorem dX2_abort_2 : decode cX2_abort 2 = .ok (.invokevirtual 243, 3) := dk_182 0 243 (dk_at dksX2_abort_0 2 rfl rfl)
theorem dX2_abort_5 : decode cX2_abort 5 = .ok (.ifCond .ne 5, 3) := dk_154 0 5 (dk_at dksX2_abort_0 5 rfl rfl)
theorem dX2_abort_8 : decode cX2_abort 8 = .ok (.iconst (-1), 1) := dk_2 (dk_at dksX2_abort_0 8 rfl rfl)
theorem dX2_abort_9 : decode cX2_abort 9 = .ok (.ireturn, 1) := dk_172 (dk_at dksX2_abort_0 9 rfl rfl)
theorem dX2_abort_10 : decode cX2_abort 10 = .ok (.aload_n 0, 1) := dk_42 (dk_at dksX2_abort_0 10 rfl rfl)
theorem dX2_abort_11 : decode cX2_abort 11 = .ok (.getfield 22, 3) := dk_180 0 22 (dk_at dksX2_abort_0 11 rfl rfl)
theorem dX2_abort_14 : decode cX2_abort 14 = .ok (.iload_n 1, 1) := dk_27 (dk_at dksX2_abort_0 14 rfl rfl)
theorem dX2_abort_15 : decode cX2_abort 15 = .ok (.iconst 1, 1) := dk_4 (dk_at dksX2_abort_0 15 rfl rfl)
theorem dX2_abort_16 : decode cX2_abort 16 = .ok (.invokestatic 163, 3) := dk_184 0 163 (dk_at dksX2_abort_0 16 rfl rfl)
theorem dX2_abort_19 : decode cX2_abort 19 = .ok (.iaload, 1) := dk_46 (dk_at dksX2_abort_0 19 rfl rfl)
theorem dX2_abort_20 : decode cX2_abort 20 = .ok (.ifCond .eq 6, 3) := dk_153 0 6 (dk_at dksX2_abort_0 20 rfl rfl)
theorem dX2_abort_23 : decode cX2_abort 23 = .ok (.bipush (-3), 2) := dk_16 253 (dk_at dksX2_abort_1 0 rfl rfl)
theorem dX2_abort_25 : decode cX2_abort 25 = .ok (.ireturn, 1) := dk_172 (dk_at dksX2_abort_1 2 rfl rfl)
theorem dX2_abort_26 : decode cX2_abort 26 = .ok (.aload_n 0, 1) := dk_42 (dk_at dksX2_abort_1 3 rfl rfl)
theorem dX2_abort_27 : decode cX2_abort 27 = .ok (.iload_n 1, 1) := dk_27 (dk_at dksX2_abort_1 4 rfl rfl)
theorem dX2_abort_28 : decode cX2_abort 28 = .ok (.iconst 0, 1) := dk_3 (dk_at dksX2_abort_1 5 rfl rfl)
theorem dX2_abort_29 : decode cX2_abort 29 = .ok (.invokevirtual 208, 3) := dk_182 0 208 (dk_at dksX2_abort_1 6 rfl rfl)
theorem dX2_abort_32 : decode cX2_abort 32 = .ok (.aload_n 0, 1) := dk_42 (dk_at dksX2_abort_1 9 rfl rfl)
theorem dX2_abort_33 : decode cX2_abort 33 = .ok (.iload_n 1, 1) := dk_27 (dk_at dksX2_abort_1 10 rfl rfl)
theorem dX2_abort_34 : decode cX2_abort 34 = .ok (.iconst 2, 1) := dk_5 (dk_at dksX2_abort_1 11 rfl rfl)
theorem dX2_abort_35 : decode cX2_abort 35 = .ok (.invokevirtual 233, 3) := dk_182 0 233 (dk_at dksX2_abort_1 12 rfl rfl)
theorem dX2_abort_38 : decode cX2_abort 38 = .ok (.aload_n 0, 1) := dk_42 (dk_at dksX2_abort_1 15 rfl rfl)
theorem dX2_abort_39 : decode cX2_abort 39 = .ok (.iload_n 1, 1) := dk_27 (dk_at dksX2_abort_1 16 rfl rfl)
theorem dX2_abort_40 : decode cX2_abort 40 = .ok (.invokevirtual 239, 3) := dk_182 0 239 (dk_at dksX2_abort_1 17 rfl rfl)
theorem dX2_abort_43 : decode cX2_abort 43 = .ok (.aload_n 0, 1) := dk_42 (dk_at dksX2_abort_1 20 rfl rfl)
theorem dX2_abort_44 : decode cX2_abort 44 = .ok (.getfield 22, 3) := dk_180 0 22 (dk_at dksX2_abort_1 21 rfl rfl)
theorem dX2_abort_47 : decode cX2_abort 47 = .ok (.iload_n 1, 1) := dk_27 (dk_at dksX2_abort_2 0 rfl rfl)
theorem dX2_abort_48 : decode cX2_abort 48 = .ok (.iconst 1, 1) := dk_4 (dk_at dksX2_abort_2 1 rfl rfl)
theorem dX2_abort_49 : decode cX2_abort 49 = .ok (.invokestatic 163, 3) := dk_184 0 163 (dk_at dksX2_abort_2 2 rfl rfl)
theorem dX2_abort_52 : decode cX2_abort 52 = .ok (.iaload, 1) := dk_46 (dk_at dksX2_abort_2 5 rfl rfl)
theorem dX2_abort_53 : decode cX2_abort 53 = .ok (.ireturn, 1) := dk_172 (dk_at dksX2_abort_2 6 rfl rfl)
theorem hd_X2_looksAt : (yX2_looksAt.cls ≠ "java/lang/invoke/MethodHandle" ∧ yX2_looksAt.cls ≠ "java/lang/invoke/VarHandle" ∧ (parseMethodDescriptor yX2_looksAt.desc).map (fun d => d.parameters.length) = some 1) := ⟨by decide +kernel, by decide +kernel, by decide +kernel⟩
def t_X2_abort (p1 : Int32) (w0 : TS) : Option (Int32 × TS) := gB2 (t_X2_isInstance p1 w0) fun x2 w1 => if x2 = 0 then some ((-1), w1) else gB2 (t_X2_of p1 (nI 1) w1) fun x5 w4 => gB1 (tLd w4 5 x5) fun x6 => if x6 = 0 then gB2 (t_X2_cancels 12 p1 (nI 0) w4) fun _ w8 => gB2 (t_X2_becomes p1 (nI 2) w8) fun _ w9 => gB2 (t_X2_looksAt p1 w9) fun _ w10 => gB2 (t_X2_of p1 (nI 1) w10) fun x12 w11 => gB1 (tLd w11 5 x12) fun x13 => some (x13, w11) else some ((-3), w4)
set_option maxHeartbeats 4000000 in
set_option maxRecDepth 100000 in
theorem kt_X2_abort {D : va_G} {dA : Nat → ClassId} {A : Nat → Prop} {K : Nat → Nat} {l : Launch} {wb : gw} {ad : Nat → Nat} (hinj : tInj ad) {h : Nat} (hh : 67 ≤ h) {p1 : Int32} {w0 ww : TS} {rr : Int32} (hf : t_X2_abort p1 w0 = some (rr, ww)) : gMet D dA A K l yX2_abort (ws_ yX2_abort cX2_abort 2 (some .int)) h [(ga (some (ad 0))), (gi p1)] (some (gi rr)) (twOf wb ad w0) (twOf wb ad ww) := by
  refine j_start (own := RX2) (by decide +kernel) rfl (Nat.le_of_ble_eq_true rfl) ?_
  intro p e R s m args below meth c C hr hin hw
  unfold t_X2_abort at hf
  show gJ D dA A K p l e R s m args below meth c (gEnd D dA A K below args s (twOf wb ad w0) (some (gi rr)) (twOf wb ad ww)) 2 0 [(0, (ga (some (ad 0)))), (1, (gi p1))] [] (twOf wb ad w0)
  refine j_aload_n C dX2_abort_0 rfl ?_
  refine j_iload_n C dX2_abort_1 rfl ?_
  replace hf := gB2_e hf
  obtain ⟨x2, w1, ew1, hf⟩ := hf
  refine j_callV (As := [(gi p1)]) (rest := []) (v := (some (gi x2))) C (by omega) (kt_X2_isInstance hinj (by omega) ew1) (tw_cls hinj) rfl q1900 q1902 qs81 q93 q1903 ⟨rfl, hd_X2_isInstance⟩ (by decide) rfl (Nat.le_of_ble_eq_true rfl) dX2_abort_2 ?_
  refine j_if_ne (tgt := 10) C dX2_abort_5 (by decide) (fun c3 => ?_) (fun c3 => ?_)
  · replace hf := gIf_f hf c3
    refine j_aload_n C dX2_abort_10 rfl ?_
    refine j_get (v := (ga (some (ad 5)))) C fl_X2_22_2 dX2_abort_11 (tw_F hinj rfl) ?_
    refine j_iload_n C dX2_abort_14 rfl ?_
    refine j_iconst (v := (nI 1)) C dX2_abort_15 (by decide) ?_
    replace hf := gB2_e hf
    obtain ⟨x5, w4, ew4, hf⟩ := hf
    refine j_callS (As := [(gi p1), (gi (nI 1))]) (rest := [(ga (some (ad 5)))]) (v := (some (gi x5))) C (by omega) (kt_X2_of hinj (by omega) ew4) q1798 q1799 q93 q1800 hd_X2_of (by decide) rfl (Nat.le_of_ble_eq_true rfl) dX2_abort_16 ?_
    replace hf := gB1_e hf
    obtain ⟨x6, ex6, hf⟩ := hf
    refine j_iald C (tw_ld hinj ex6) dX2_abort_19 ?_
    refine j_if_eq (tgt := 26) C dX2_abort_20 (by decide) (fun c7 => ?_) (fun c7 => ?_)
    · replace hf := gIf_t hf c7
      refine j_aload_n C dX2_abort_26 rfl ?_
      refine j_iload_n C dX2_abort_27 rfl ?_
      refine j_iconst (v := (nI 0)) C dX2_abort_28 (by decide) ?_
      replace hf := gB2_e hf
      obtain ⟨_, w8, ew8, hf⟩ := hf
      refine j_callV (As := [(gi p1), (gi (nI 0))]) (rest := []) (v := none) C (by omega) (kt_X2_cancels hinj 12 (by omega) ew8) (tw_cls hinj) rfl q1868 q1870 qs74 q93 q1871 ⟨rfl, hd_X2_cancels⟩ (by decide) rfl (Nat.le_of_ble_eq_true rfl) dX2_abort_29 ?_
      refine j_aload_n C dX2_abort_32 rfl ?_
      refine j_iload_n C dX2_abort_33 rfl ?_
      refine j_iconst (v := (nI 2)) C dX2_abort_34 (by decide) ?_
      replace hf := gB2_e hf
      obtain ⟨_, w9, ew9, hf⟩ := hf
      refine j_callV (As := [(gi p1), (gi (nI 2))]) (rest := []) (v := none) C (by omega) (kt_X2_becomes hinj (by omega) ew9) (tw_cls hinj) rfl q1892 q1894 qs80 q93 q1895 ⟨rfl, hd_X2_becomes⟩ (by decide) rfl (Nat.le_of_ble_eq_true rfl) dX2_abort_35 ?_
      refine j_aload_n C dX2_abort_38 rfl ?_
      refine j_iload_n C dX2_abort_39 rfl ?_
      replace hf := gB2_e hf
      obtain ⟨_, w10, ew10, hf⟩ := hf
      refine j_callV (As := [(gi p1)]) (rest := []) (v := none) C (by omega) (kt_X2_looksAt hinj (by omega) ew10) (tw_cls hinj) rfl q1804 q1806 qs58 q93 q1807 ⟨rfl, hd_X2_looksAt⟩ (by decide) rfl (Nat.le_of_ble_eq_true rfl) dX2_abort_40 ?_
      refine j_aload_n C dX2_abort_43 rfl ?_
      refine j_get (v := (ga (some (ad 5)))) C fl_X2_22_2 dX2_abort_44 (tw_F hinj rfl) ?_
      refine j_iload_n C dX2_abort_47 rfl ?_
      refine j_iconst (v := (nI 1)) C dX2_abort_48 (by decide) ?_
      replace hf := gB2_e hf
      obtain ⟨x12, w11, ew11, hf⟩ := hf
      refine j_callS (As := [(gi p1), (gi (nI 1))]) (rest := [(ga (some (ad 5)))]) (v := (some (gi x12))) C (by omega) (kt_X2_of hinj (by omega) ew11) q1798 q1799 q93 q1800 hd_X2_of (by decide) rfl (Nat.le_of_ble_eq_true rfl) dX2_abort_49 ?_
      replace hf := gB1_e hf
      obtain ⟨x13, ex13, hf⟩ := hf
      refine j_iald C (tw_ld hinj ex13) dX2_abort_52 ?_
      obtain ⟨rfl, rfl⟩ := gSome hf
      exact j_iret C hr hw dX2_abort_53
    · replace hf := gIf_f hf c7
      refine j_bipush (v := (-3)) C dX2_abort_23 (by decide) ?_
      obtain ⟨rfl, rfl⟩ := gSome hf
      exact j_iret C hr hw dX2_abort_25
  · replace hf := gIf_t hf c3
    refine j_iconst (v := (-1)) C dX2_abort_8 (by decide) ?_
    obtain ⟨rfl, rfl⟩ := gSome hf
    exact j_iret C hr hw dX2_abort_9
def dkwX2_passes_1 : List UInt8 := [184, 0, 163, 46, 4, 160, 0, 8, 42, 27, 182, 0, 239, 132, 1, 1, 167, 255, 228, 177]
abbrev dktX2_passes_1 : List UInt8 := dkwX2_passes_1 ++ []
def dkwX2_passes_0 : List UInt8 := [42, 180, 0, 22, 3, 92, 46, 4, 96, 79, 3, 60, 27, 16, 6, 162, 0, 28, 42, 180, 0, 22, 27, 3]
abbrev dktX2_passes_0 : List UInt8 := dkwX2_passes_0 ++ dktX2_passes_1
theorem dksX2_passes_0 : cX2_passes.data.toList.drop 0 = dktX2_passes_0 := by decide +kernel
theorem dksX2_passes_1 : cX2_passes.data.toList.drop 24 = dktX2_passes_1 := dk_seg dksX2_passes_0 24 rfl rfl
theorem dX2_passes_0 : decode cX2_passes 0 = .ok (.aload_n 0, 1) := dk_42 (dk_at dksX2_passes_0 0 rfl rfl)
theorem dX2_passes_1 : decode cX2_passes 1 = .ok (.getfield 22, 3) := dk_180 0 22 (dk_at dksX2_passes_0 1 rfl rfl)
theorem dX2_passes_4 : decode cX2_passes 4 = .ok (.iconst 0, 1) := dk_3 (dk_at dksX2_passes_0 4 rfl rfl)
theorem dX2_passes_5 : decode cX2_passes 5 = .ok (.dup2, 1) := dk_92 (dk_at dksX2_passes_0 5 rfl rfl)
theorem dX2_passes_6 : decode cX2_passes 6 = .ok (.iaload, 1) := dk_46 (dk_at dksX2_passes_0 6 rfl rfl)
theorem dX2_passes_7 : decode cX2_passes 7 = .ok (.iconst 1, 1) := dk_4 (dk_at dksX2_passes_0 7 rfl rfl)
theorem dX2_passes_8 : decode cX2_passes 8 = .ok (.iadd, 1) := dk_96 (dk_at dksX2_passes_0 8 rfl rfl)
theorem dX2_passes_9 : decode cX2_passes 9 = .ok (.iastore, 1) := dk_79 (dk_at dksX2_passes_0 9 rfl rfl)
theorem dX2_passes_10 : decode cX2_passes 10 = .ok (.iconst 0, 1) := dk_3 (dk_at dksX2_passes_0 10 rfl rfl)
theorem dX2_passes_11 : decode cX2_passes 11 = .ok (.istore_n 1, 1) := dk_60 (dk_at dksX2_passes_0 11 rfl rfl)
theorem dX2_passes_12 : decode cX2_passes 12 = .ok (.iload_n 1, 1) := dk_27 (dk_at dksX2_passes_0 12 rfl rfl)
theorem dX2_passes_13 : decode cX2_passes 13 = .ok (.bipush 6, 2) := dk_16 6 (dk_at dksX2_passes_0 13 rfl rfl)
theorem dX2_passes_15 : decode cX2_passes 15 = .ok (.if_icmp .ge 28, 3) := dk_162 0 28 (dk_at dksX2_passes_0 15 rfl rfl)
theorem dX2_passes_18 : decode cX2_passes 18 = .ok (.aload_n 0, 1) := dk_42 (dk_at dksX2_passes_0 18 rfl rfl)
theorem dX2_passes_19 : decode cX2_passes 19 = .ok (.getfield 22, 3) := dk_180 0 22 (dk_at dksX2_passes_0 19 rfl rfl)
theorem dX2_passes_22 : decode cX2_passes 22 = .ok (.iload_n 1, 1) := dk_27 (dk_at dksX2_passes_0 22 rfl rfl)
theorem dX2_passes_23 : decode cX2_passes 23 = .ok (.iconst 0, 1) := dk_3 (dk_at dksX2_passes_0 23 rfl rfl)
theorem dX2_passes_24 : decode cX2_passes 24 = .ok (.invokestatic 163, 3) := dk_184 0 163 (dk_at dksX2_passes_1 0 rfl rfl)
theorem dX2_passes_27 : decode cX2_passes 27 = .ok (.iaload, 1) := dk_46 (dk_at dksX2_passes_1 3 rfl rfl)
theorem dX2_passes_28 : decode cX2_passes 28 = .ok (.iconst 1, 1) := dk_4 (dk_at dksX2_passes_1 4 rfl rfl)
theorem dX2_passes_29 : decode cX2_passes 29 = .ok (.if_icmp .ne 8, 3) := dk_160 0 8 (dk_at dksX2_passes_1 5 rfl rfl)
theorem dX2_passes_32 : decode cX2_passes 32 = .ok (.aload_n 0, 1) := dk_42 (dk_at dksX2_passes_1 8 rfl rfl)
theorem dX2_passes_33 : decode cX2_passes 33 = .ok (.iload_n 1, 1) := dk_27 (dk_at dksX2_passes_1 9 rfl rfl)
theorem dX2_passes_34 : decode cX2_passes 34 = .ok (.invokevirtual 239, 3) := dk_182 0 239 (dk_at dksX2_passes_1 10 rfl rfl)
theorem dX2_passes_37 : decode cX2_passes 37 = .ok (.iinc 1 1, 3) := dk_132 1 1 (dk_at dksX2_passes_1 13 rfl rfl)
theorem dX2_passes_40 : decode cX2_passes 40 = .ok (.goto (-28), 3) := dk_167 255 228 (dk_at dksX2_passes_1 16 rfl rfl)
theorem dX2_passes_43 : decode cX2_passes 43 = .ok (.return_, 1) := dk_177 (dk_at dksX2_passes_1 19 rfl rfl)
def t_X2_passes  (w0 : TS) : Option (Unit × TS) := gB1 (tLd w0 5 (nI 0)) fun x1 => gB1 (tSt w0 5 (nI 0) (x1 + (nI 1))) fun w2 => gL1 (fun k5 (x4 : Int32) (w3 : TS) => if (nI 6) ≤ x4 then some ((), w3) else gB2 (t_X2_of x4 (nI 0) w3) fun x8 w7 => gB1 (tLd w7 5 x8) fun x9 => gBd (fun (x12 : Int32) (w11 : TS) => gBd (x12 + (nI 1)) fun x13 => k5 x13 w11) fun k10 => if x9 = (nI 1) then gB2 (t_X2_looksAt x4 w7) fun _ w15 => k10 x4 w15 else k10 x4 w7) 20000 (nI 0) w2
set_option maxHeartbeats 4000000 in
set_option maxRecDepth 100000 in
theorem kt_X2_passes {D : va_G} {dA : Nat → ClassId} {A : Nat → Prop} {K : Nat → Nat} {l : Launch} {wb : gw} {ad : Nat → Nat} (hinj : tInj ad) {h : Nat} (hh : 67 ≤ h)  {w0 ww : TS} {rr : Unit} (hf : t_X2_passes  w0 = some (rr, ww)) : gMet D dA A K l yX2_passes (ws_ yX2_passes cX2_passes 2 none) h [(ga (some (ad 0)))] none (twOf wb ad w0) (twOf wb ad ww) := by
  refine j_start (own := RX2) (by decide +kernel) rfl (Nat.le_of_ble_eq_true rfl) ?_
  intro p e R s m args below meth c C hr hin hw
  unfold t_X2_passes at hf
  show gJ D dA A K p l e R s m args below meth c (gEnd D dA A K below args s (twOf wb ad w0) none (twOf wb ad ww)) 2 0 [(0, (ga (some (ad 0))))] [] (twOf wb ad w0)
  refine j_aload_n C dX2_passes_0 rfl ?_
  refine j_get (v := (ga (some (ad 5)))) C fl_X2_22_2 dX2_passes_1 (tw_F hinj rfl) ?_
  refine j_iconst (v := (nI 0)) C dX2_passes_4 (by decide) ?_
  refine j_dup2 C dX2_passes_5 ?_
  replace hf := gB1_e hf
  obtain ⟨x1, ex1, hf⟩ := hf
  refine j_iald C (tw_ld hinj ex1) dX2_passes_6 ?_
  refine j_iconst (v := (nI 1)) C dX2_passes_7 (by decide) ?_
  refine j_iadd C dX2_passes_8 ?_
  replace hf := gB1_e hf
  obtain ⟨w2, ew2, hf⟩ := hf
  refine j_iast C (tw_st hinj ew2) dX2_passes_9 ?_
  refine j_iconst (v := (nI 0)) C dX2_passes_10 (by decide) ?_
  refine j_istore_n (lv' := [(1, (gi (nI 0))), (0, (ga (some (ad 0))))]) C dX2_passes_11 (by decide) rfl ?_
  refine j_sub (lv' := [(0, (ga (some (ad 0)))), (1, (gi (nI 0)))]) (gL_cons rfl (gL_cons rfl (gL_nil))) ?_
  refine gL1_e (fun (x4 : Int32) (w3 : TS) => gJ D dA A K p l e R s m args below meth c (gEnd D dA A K below args s (twOf wb ad w0) none (twOf wb ad ww)) 2 12 [(0, (ga (some (ad 0)))), (1, (gi x4))] [] (twOf wb ad w3)) ?_ _ _ _ hf
  intro k5 jk5 x4 w3 hf
  refine j_iload_n C dX2_passes_12 rfl ?_
  refine j_bipush (v := (nI 6)) C dX2_passes_13 (by decide) ?_
  refine j_icmp_ge (tgt := 43) C dX2_passes_15 (by decide) (fun c6 => ?_) (fun c6 => ?_)
  · replace hf := gIf_t hf c6
    obtain ⟨rfl, rfl⟩ := gSome hf
    exact j_vret C hr hw dX2_passes_43
  · replace hf := gIf_f hf c6
    refine j_aload_n C dX2_passes_18 rfl ?_
    refine j_get (v := (ga (some (ad 5)))) C fl_X2_22_2 dX2_passes_19 (tw_F hinj rfl) ?_
    refine j_iload_n C dX2_passes_22 rfl ?_
    refine j_iconst (v := (nI 0)) C dX2_passes_23 (by decide) ?_
    replace hf := gB2_e hf
    obtain ⟨x8, w7, ew7, hf⟩ := hf
    refine j_callS (As := [(gi x4), (gi (nI 0))]) (rest := [(ga (some (ad 5)))]) (v := (some (gi x8))) C (by omega) (kt_X2_of hinj (by omega) ew7) q1798 q1799 q93 q1800 hd_X2_of (by decide) rfl (Nat.le_of_ble_eq_true rfl) dX2_passes_24 ?_
    replace hf := gB1_e hf
    obtain ⟨x9, ex9, hf⟩ := hf
    refine j_iald C (tw_ld hinj ex9) dX2_passes_27 ?_
    refine j_iconst (v := (nI 1)) C dX2_passes_28 (by decide) ?_
    replace hf := gBd_x hf
    obtain ⟨k10, ek10, hf⟩ := hf
    have jk10 : ∀ (x12 : Int32) (w11 : TS), k10 x12 w11 = some (rr, ww) → gJ D dA A K p l e R s m args below meth c (gEnd D dA A K below args s (twOf wb ad w0) none (twOf wb ad ww)) 2 37 [(0, (ga (some (ad 0)))), (1, (gi x12))] [] (twOf wb ad w11) := by
      intro x12 w11 hf
      rw [ek10] at hf
      dsimp only at hf
      replace hf := gBd_x hf
      obtain ⟨x13, ex13, hf⟩ := hf
      refine j_iinc (v := x13) (lv' := [(1, (gi x13)), (0, (ga (some (ad 0))))]) C dX2_passes_37 rfl (by rw [ex13]; rfl) (by decide) rfl ?_
      refine j_goto (tgt := 12) C dX2_passes_40 (by decide) ?_
      refine j_sub (lv' := [(0, (ga (some (ad 0)))), (1, (gi x13))]) (gL_cons rfl (gL_cons rfl (gL_nil))) ?_
      exact jk5 _ _ hf
    clear ek10
    refine j_icmp_ne (tgt := 37) C dX2_passes_29 (by decide) (fun c14 => ?_) (fun c14 => ?_)
    · replace hf := gIf_f hf c14
      exact jk10 _ _ hf
    · replace hf := gIf_t hf c14
      refine j_aload_n C dX2_passes_32 rfl ?_
      refine j_iload_n C dX2_passes_33 rfl ?_
      replace hf := gB2_e hf
      obtain ⟨_, w15, ew15, hf⟩ := hf
      refine j_callV (As := [(gi x4)]) (rest := []) (v := none) C (by omega) (kt_X2_looksAt hinj (by omega) ew15) (tw_cls hinj) rfl q1804 q1806 qs58 q93 q1807 ⟨rfl, hd_X2_looksAt⟩ (by decide) rfl (Nat.le_of_ble_eq_true rfl) dX2_passes_34 ?_
      exact jk10 _ _ hf
def dkwX2_ahead_3 : List UInt8 := [42, 180, 0, 22, 17, 29, 169, 184, 1, 6, 29, 172]
abbrev dktX2_ahead_3 : List UInt8 := dkwX2_ahead_3 ++ []
def dkwX2_ahead_2 : List UInt8 := [182, 0, 247, 132, 3, 1, 167, 255, 244, 42, 180, 0, 22, 27, 4, 184, 0, 163, 46, 62, 42, 180, 0, 28]
abbrev dktX2_ahead_2 : List UInt8 := dkwX2_ahead_2 ++ dktX2_ahead_3
def dkwX2_ahead_1 : List UInt8 := [42, 180, 0, 22, 42, 180, 0, 28, 17, 29, 169, 184, 1, 6, 3, 62, 29, 28, 162, 0, 13, 42]
abbrev dktX2_ahead_1 : List UInt8 := dkwX2_ahead_1 ++ dktX2_ahead_2
def dkwX2_ahead_0 : List UInt8 := [42, 27, 182, 0, 243, 154, 0, 5, 2, 172, 28, 4, 17, 0, 200, 184, 0, 38, 154, 0, 6, 16, 254, 172]
abbrev dktX2_ahead_0 : List UInt8 := dkwX2_ahead_0 ++ dktX2_ahead_1
theorem dksX2_ahead_0 : cX2_ahead.data.toList.drop 0 = dktX2_ahead_0 := by decide +kernel
theorem dksX2_ahead_1 : cX2_ahead.data.toList.drop 24 = dktX2_ahead_1 := dk_seg dksX2_ahead_0 24 rfl rfl
theorem dksX2_ahead_2 : cX2_ahead.data.toList.drop 46 = dktX2_ahead_2 := dk_seg dksX2_ahead_1 22 rfl rfl
theorem dksX2_ahead_3 : cX2_ahead.data.toList.drop 70 = dktX2_ahead_3 := dk_seg dksX2_ahead_2 24 rfl rfl
theorem dX2_ahead_0 : decode cX2_ahead 0 = .ok (.aload_n 0, 1) := dk_42 (dk_at dksX2_ahead_0 0 rfl rfl)
theorem dX2_ahead_1 : decode cX2_ahead 1 = .ok (.iload_n 1, 1) := dk_27 (dk_at dksX2_ahead_0 1 rfl rfl)
theorem dX2_ahead_2 : decode cX2_ahead 2 = .ok (.invokevirtual 243, 3) := dk_182 0 243 (dk_at dksX2_ahead_0 2 rfl rfl)
theorem dX2_ahead_5 : decode cX2_ahead 5 = .ok (.ifCond .ne 5, 3) := dk_154 0 5 (dk_at dksX2_ahead_0 5 rfl rfl)
theorem dX2_ahead_8 : decode cX2_ahead 8 = .ok (.iconst (-1), 1) := dk_2 (dk_at dksX2_ahead_0 8 rfl rfl)
theorem dX2_ahead_9 : decode cX2_ahead 9 = .ok (.ireturn, 1) := dk_172 (dk_at dksX2_ahead_0 9 rfl rfl)
theorem dX2_ahead_10 : decode cX2_ahead 10 = .ok (.iload_n 2, 1) := dk_28 (dk_at dksX2_ahead_0 10 rfl rfl)
theorem dX2_ahead_11 : decode cX2_ahead 11 = .ok (.iconst 1, 1) := dk_4 (dk_at dksX2_ahead_0 11 rfl rfl)
theorem dX2_ahead_12 : decode cX2_ahead 12 = .ok (.sipush 200, 3) := dk_17 0 200 (dk_at dksX2_ahead_0 12 rfl rfl)
theorem dX2_ahead_15 : decode cX2_ahead 15 = .ok (.invokestatic 38, 3) := dk_184 0 38 (dk_at dksX2_ahead_0 15 rfl rfl)
theorem dX2_ahead_18 : decode cX2_ahead 18 = .ok (.ifCond .ne 6, 3) := dk_154 0 6 (dk_at dksX2_ahead_0 18 rfl rfl)
theorem dX2_ahead_21 : decode cX2_ahead 21 = .ok (.bipush (-2), 2) := dk_16 254 (dk_at dksX2_ahead_0 21 rfl rfl)
theorem dX2_ahead_23 : decode cX2_ahead 23 = .ok (.ireturn, 1) := dk_172 (dk_at dksX2_ahead_0 23 rfl rfl)
theorem dX2_ahead_24 : decode cX2_ahead 24 = .ok (.aload_n 0, 1) := dk_42 (dk_at dksX2_ahead_1 0 rfl rfl)
theorem dX2_ahead_25 : decode cX2_ahead 25 = .ok (.getfield 22, 3) := dk_180 0 22 (dk_at dksX2_ahead_1 1 rfl rfl)
theorem dX2_ahead_28 : decode cX2_ahead 28 = .ok (.aload_n 0, 1) := dk_42 (dk_at dksX2_ahead_1 4 rfl rfl)
theorem dX2_ahead_29 : decode cX2_ahead 29 = .ok (.getfield 28, 3) := dk_180 0 28 (dk_at dksX2_ahead_1 5 rfl rfl)
theorem dX2_ahead_32 : decode cX2_ahead 32 = .ok (.sipush 7593, 3) := dk_17 29 169 (dk_at dksX2_ahead_1 8 rfl rfl)
theorem dX2_ahead_35 : decode cX2_ahead 35 = .ok (.invokestatic 262, 3) := dk_184 1 6 (dk_at dksX2_ahead_1 11 rfl rfl)
theorem dX2_ahead_38 : decode cX2_ahead 38 = .ok (.iconst 0, 1) := dk_3 (dk_at dksX2_ahead_1 14 rfl rfl)
theorem dX2_ahead_39 : decode cX2_ahead 39 = .ok (.istore_n 3, 1) := dk_62 (dk_at dksX2_ahead_1 15 rfl rfl)
theorem dX2_ahead_40 : decode cX2_ahead 40 = .ok (.iload_n 3, 1) := dk_29 (dk_at dksX2_ahead_1 16 rfl rfl)
theorem dX2_ahead_41 : decode cX2_ahead 41 = .ok (.iload_n 2, 1) := dk_28 (dk_at dksX2_ahead_1 17 rfl rfl)
theorem dX2_ahead_42 : decode cX2_ahead 42 = .ok (.if_icmp .ge 13, 3) := dk_162 0 13 (dk_at dksX2_ahead_1 18 rfl rfl)
theorem dX2_ahead_45 : decode cX2_ahead 45 = .ok (.aload_n 0, 1) := dk_42 (dk_at dksX2_ahead_1 21 rfl rfl)
theorem dX2_ahead_46 : decode cX2_ahead 46 = .ok (.invokevirtual 247, 3) := dk_182 0 247 (dk_at dksX2_ahead_2 0 rfl rfl)
theorem dX2_ahead_49 : decode cX2_ahead 49 = .ok (.iinc 3 1, 3) := dk_132 3 1 (dk_at dksX2_ahead_2 3 rfl rfl)
theorem dX2_ahead_52 : decode cX2_ahead 52 = .ok (.goto (-12), 3) := dk_167 255 244 (dk_at dksX2_ahead_2 6 rfl rfl)
theorem dX2_ahead_55 : decode cX2_ahead 55 = .ok (.aload_n 0, 1) := dk_42 (dk_at dksX2_ahead_2 9 rfl rfl)
theorem dX2_ahead_56 : decode cX2_ahead 56 = .ok (.getfield 22, 3) := dk_180 0 22 (dk_at dksX2_ahead_2 10 rfl rfl)
theorem dX2_ahead_59 : decode cX2_ahead 59 = .ok (.iload_n 1, 1) := dk_27 (dk_at dksX2_ahead_2 13 rfl rfl)
theorem dX2_ahead_60 : decode cX2_ahead 60 = .ok (.iconst 1, 1) := dk_4 (dk_at dksX2_ahead_2 14 rfl rfl)
theorem dX2_ahead_61 : decode cX2_ahead 61 = .ok (.invokestatic 163, 3) := dk_184 0 163 (dk_at dksX2_ahead_2 15 rfl rfl)
theorem dX2_ahead_64 : decode cX2_ahead 64 = .ok (.iaload, 1) := dk_46 (dk_at dksX2_ahead_2 18 rfl rfl)
theorem dX2_ahead_65 : decode cX2_ahead 65 = .ok (.istore_n 3, 1) := dk_62 (dk_at dksX2_ahead_2 19 rfl rfl)
theorem dX2_ahead_66 : decode cX2_ahead 66 = .ok (.aload_n 0, 1) := dk_42 (dk_at dksX2_ahead_2 20 rfl rfl)
theorem dX2_ahead_67 : decode cX2_ahead 67 = .ok (.getfield 28, 3) := dk_180 0 28 (dk_at dksX2_ahead_2 21 rfl rfl)
theorem dX2_ahead_70 : decode cX2_ahead 70 = .ok (.aload_n 0, 1) := dk_42 (dk_at dksX2_ahead_3 0 rfl rfl)
theorem dX2_ahead_71 : decode cX2_ahead 71 = .ok (.getfield 22, 3) := dk_180 0 22 (dk_at dksX2_ahead_3 1 rfl rfl)
theorem dX2_ahead_74 : decode cX2_ahead 74 = .ok (.sipush 7593, 3) := dk_17 29 169 (dk_at dksX2_ahead_3 4 rfl rfl)
theorem dX2_ahead_77 : decode cX2_ahead 77 = .ok (.invokestatic 262, 3) := dk_184 1 6 (dk_at dksX2_ahead_3 7 rfl rfl)
theorem dX2_ahead_80 : decode cX2_ahead 80 = .ok (.iload_n 3, 1) := dk_29 (dk_at dksX2_ahead_3 10 rfl rfl)
theorem dX2_ahead_81 : decode cX2_ahead 81 = .ok (.ireturn, 1) := dk_172 (dk_at dksX2_ahead_3 11 rfl rfl)
theorem hd_X2_passes : (yX2_passes.cls ≠ "java/lang/invoke/MethodHandle" ∧ yX2_passes.cls ≠ "java/lang/invoke/VarHandle" ∧ (parseMethodDescriptor yX2_passes.desc).map (fun d => d.parameters.length) = some 0) := ⟨by decide +kernel, by decide +kernel, by decide +kernel⟩
def t_X2_ahead (p1 : Int32) (p2 : Int32) (w0 : TS) : Option (Int32 × TS) := gB2 (t_X2_isInstance p1 w0) fun x2 w1 => if x2 = 0 then some ((-1), w1) else gB2 (t_X2_isIn p2 (nI 1) (nI 200) w1) fun x5 w4 => if x5 = 0 then some ((-2), w4) else gB2 (t_X2_copies 5 7 (nI 7593) w4) fun _ w7 => gL3 (fun k12 (x9 : Int32) (x10 : Int32) (x11 : Int32) (w8 : TS) => if x10 ≤ x11 then gB2 (t_X2_of x9 (nI 1) w8) fun x15 w14 => gB1 (tLd w14 5 x15) fun x16 => gB2 (t_X2_copies 7 5 (nI 7593) w14) fun _ w17 => some (x16, w17) else gB2 (t_X2_passes  w8) fun _ w18 => gBd (x11 + (nI 1)) fun x19 => k12 x9 x10 x19 w18) 20000 p1 p2 (nI 0) w7
set_option maxHeartbeats 4000000 in
set_option maxRecDepth 100000 in
theorem kt_X2_ahead {D : va_G} {dA : Nat → ClassId} {A : Nat → Prop} {K : Nat → Nat} {l : Launch} {wb : gw} {ad : Nat → Nat} (hinj : tInj ad) {h : Nat} (hh : 68 ≤ h) {p1 : Int32} {p2 : Int32} {w0 ww : TS} {rr : Int32} (hf : t_X2_ahead p1 p2 w0 = some (rr, ww)) : gMet D dA A K l yX2_ahead (ws_ yX2_ahead cX2_ahead 4 (some .int)) h [(ga (some (ad 0))), (gi p1), (gi p2)] (some (gi rr)) (twOf wb ad w0) (twOf wb ad ww) := by
  refine j_start (own := RX2) (by decide +kernel) rfl (Nat.le_of_ble_eq_true rfl) ?_
  intro p e R s m args below meth c C hr hin hw
  unfold t_X2_ahead at hf
  show gJ D dA A K p l e R s m args below meth c (gEnd D dA A K below args s (twOf wb ad w0) (some (gi rr)) (twOf wb ad ww)) 4 0 [(0, (ga (some (ad 0)))), (1, (gi p1)), (2, (gi p2))] [] (twOf wb ad w0)
  refine j_aload_n C dX2_ahead_0 rfl ?_
  refine j_iload_n C dX2_ahead_1 rfl ?_
  replace hf := gB2_e hf
  obtain ⟨x2, w1, ew1, hf⟩ := hf
  refine j_callV (As := [(gi p1)]) (rest := []) (v := (some (gi x2))) C (by omega) (kt_X2_isInstance hinj (by omega) ew1) (tw_cls hinj) rfl q1900 q1902 qs81 q93 q1903 ⟨rfl, hd_X2_isInstance⟩ (by decide) rfl (Nat.le_of_ble_eq_true rfl) dX2_ahead_2 ?_
  refine j_if_ne (tgt := 10) C dX2_ahead_5 (by decide) (fun c3 => ?_) (fun c3 => ?_)
  · replace hf := gIf_f hf c3
    refine j_iload_n C dX2_ahead_10 rfl ?_
    refine j_iconst (v := (nI 1)) C dX2_ahead_11 (by decide) ?_
    refine j_sipush (v := (nI 200)) C dX2_ahead_12 (by decide) ?_
    replace hf := gB2_e hf
    obtain ⟨x5, w4, ew4, hf⟩ := hf
    refine j_callS (As := [(gi p2), (gi (nI 1)), (gi (nI 200))]) (rest := []) (v := (some (gi x5))) C (by omega) (kt_X2_isIn hinj (by omega) ew4) q1662 q1663 q93 q1664 hd_X2_isIn (by decide) rfl (Nat.le_of_ble_eq_true rfl) dX2_ahead_15 ?_
    refine j_if_ne (tgt := 24) C dX2_ahead_18 (by decide) (fun c6 => ?_) (fun c6 => ?_)
    · replace hf := gIf_f hf c6
      refine j_aload_n C dX2_ahead_24 rfl ?_
      refine j_get (v := (ga (some (ad 5)))) C fl_X2_22_2 dX2_ahead_25 (tw_F hinj rfl) ?_
      refine j_aload_n C dX2_ahead_28 rfl ?_
      refine j_get (v := (ga (some (ad 7)))) C fl_X2_28_2 dX2_ahead_29 (tw_F hinj rfl) ?_
      refine j_sipush (v := (nI 7593)) C dX2_ahead_32 (by decide) ?_
      replace hf := gB2_e hf
      obtain ⟨_, w7, ew7, hf⟩ := hf
      refine j_callS (As := [(ga (some (ad 5))), (ga (some (ad 7))), (gi (nI 7593))]) (rest := []) (v := none) C (by omega) (kt_X2_copies hinj (by omega) ew7) q1954 q1955 q93 q1956 hd_X2_copies (by decide) rfl (Nat.le_of_ble_eq_true rfl) dX2_ahead_35 ?_
      refine j_iconst (v := (nI 0)) C dX2_ahead_38 (by decide) ?_
      refine j_istore_n (lv' := [(3, (gi (nI 0))), (0, (ga (some (ad 0)))), (1, (gi p1)), (2, (gi p2))]) C dX2_ahead_39 (by decide) rfl ?_
      refine j_sub (lv' := [(0, (ga (some (ad 0)))), (1, (gi p1)), (2, (gi p2)), (3, (gi (nI 0)))]) (gL_cons rfl (gL_cons rfl (gL_cons rfl (gL_cons rfl (gL_nil))))) ?_
      refine gL3_e (fun (x9 : Int32) (x10 : Int32) (x11 : Int32) (w8 : TS) => gJ D dA A K p l e R s m args below meth c (gEnd D dA A K below args s (twOf wb ad w0) (some (gi rr)) (twOf wb ad ww)) 4 40 [(0, (ga (some (ad 0)))), (1, (gi x9)), (2, (gi x10)), (3, (gi x11))] [] (twOf wb ad w8)) ?_ _ _ _ _ _ hf
      intro k12 jk12 x9 x10 x11 w8 hf
      refine j_iload_n C dX2_ahead_40 rfl ?_
      refine j_iload_n C dX2_ahead_41 rfl ?_
      refine j_icmp_ge (tgt := 55) C dX2_ahead_42 (by decide) (fun c13 => ?_) (fun c13 => ?_)
      · replace hf := gIf_t hf c13
        refine j_aload_n C dX2_ahead_55 rfl ?_
        refine j_get (v := (ga (some (ad 5)))) C fl_X2_22_2 dX2_ahead_56 (tw_F hinj rfl) ?_
        refine j_iload_n C dX2_ahead_59 rfl ?_
        refine j_iconst (v := (nI 1)) C dX2_ahead_60 (by decide) ?_
        replace hf := gB2_e hf
        obtain ⟨x15, w14, ew14, hf⟩ := hf
        refine j_callS (As := [(gi x9), (gi (nI 1))]) (rest := [(ga (some (ad 5)))]) (v := (some (gi x15))) C (by omega) (kt_X2_of hinj (by omega) ew14) q1798 q1799 q93 q1800 hd_X2_of (by decide) rfl (Nat.le_of_ble_eq_true rfl) dX2_ahead_61 ?_
        replace hf := gB1_e hf
        obtain ⟨x16, ex16, hf⟩ := hf
        refine j_iald C (tw_ld hinj ex16) dX2_ahead_64 ?_
        refine j_istore_n (lv' := [(3, (gi x16)), (0, (ga (some (ad 0)))), (1, (gi x9)), (2, (gi x10))]) C dX2_ahead_65 (by decide) rfl ?_
        refine j_aload_n C dX2_ahead_66 rfl ?_
        refine j_get (v := (ga (some (ad 7)))) C fl_X2_28_2 dX2_ahead_67 (tw_F hinj rfl) ?_
        refine j_aload_n C dX2_ahead_70 rfl ?_
        refine j_get (v := (ga (some (ad 5)))) C fl_X2_22_2 dX2_ahead_71 (tw_F hinj rfl) ?_
        refine j_sipush (v := (nI 7593)) C dX2_ahead_74 (by decide) ?_
        replace hf := gB2_e hf
        obtain ⟨_, w17, ew17, hf⟩ := hf
        refine j_callS (As := [(ga (some (ad 7))), (ga (some (ad 5))), (gi (nI 7593))]) (rest := []) (v := none) C (by omega) (kt_X2_copies hinj (by omega) ew17) q1954 q1955 q93 q1956 hd_X2_copies (by decide) rfl (Nat.le_of_ble_eq_true rfl) dX2_ahead_77 ?_
        refine j_iload_n C dX2_ahead_80 rfl ?_
        obtain ⟨rfl, rfl⟩ := gSome hf
        exact j_iret C hr hw dX2_ahead_81
      · replace hf := gIf_f hf c13
        refine j_aload_n C dX2_ahead_45 rfl ?_
        replace hf := gB2_e hf
        obtain ⟨_, w18, ew18, hf⟩ := hf
        refine j_callV (As := []) (rest := []) (v := none) C (by omega) (kt_X2_passes hinj (by omega) ew18) (tw_cls hinj) rfl q1917 q1919 qs82 q93 q1920 ⟨rfl, hd_X2_passes⟩ (by decide) rfl (Nat.le_of_ble_eq_true rfl) dX2_ahead_46 ?_
        replace hf := gBd_x hf
        obtain ⟨x19, ex19, hf⟩ := hf
        refine j_iinc (v := x19) (lv' := [(3, (gi x19)), (0, (ga (some (ad 0)))), (1, (gi x9)), (2, (gi x10))]) C dX2_ahead_49 rfl (by rw [ex19]; rfl) (by decide) rfl ?_
        refine j_goto (tgt := 40) C dX2_ahead_52 (by decide) ?_
        refine j_sub (lv' := [(0, (ga (some (ad 0)))), (1, (gi x9)), (2, (gi x10)), (3, (gi x19))]) (gL_cons rfl (gL_cons rfl (gL_cons rfl (gL_cons rfl (gL_nil))))) ?_
        exact jk12 _ _ _ _ hf
    · replace hf := gIf_t hf c6
      refine j_bipush (v := (-2)) C dX2_ahead_21 (by decide) ?_
      obtain ⟨rfl, rfl⟩ := gSome hf
      exact j_iret C hr hw dX2_ahead_23
  · replace hf := gIf_t hf c3
    refine j_iconst (v := (-1)) C dX2_ahead_8 (by decide) ?_
    obtain ⟨rfl, rfl⟩ := gSome hf
    exact j_iret C hr hw dX2_ahead_9
def dkwX2_start_7 : List UInt8 := [28, 29, 16, 7, 184, 0, 169, 2, 79, 132, 3, 1, 167, 255, 234, 42, 28, 182, 0, 239, 28, 172]
abbrev dktX2_start_7 : List UInt8 := dkwX2_start_7 ++ []
def dkwX2_start_6 : List UInt8 := [42, 180, 0, 22, 28, 8, 184, 0, 163, 16, 251, 79, 3, 62, 29, 16, 64, 162, 0, 22, 42, 180, 0, 22]
abbrev dktX2_start_6 : List UInt8 := dkwX2_start_6 ++ dktX2_start_7
def dkwX2_start_5 : List UInt8 := [16, 17, 27, 96, 46, 4, 100, 79, 42, 180, 0, 22, 28, 7, 184, 0, 163, 42, 180, 0, 22, 3, 46, 79]
abbrev dktX2_start_5 : List UInt8 := dkwX2_start_5 ++ dktX2_start_6
def dkwX2_start_4 : List UInt8 := [180, 0, 22, 28, 5, 184, 0, 163, 27, 79, 42, 180, 0, 22, 28, 6, 184, 0, 163, 42, 180, 0, 22]
abbrev dktX2_start_4 : List UInt8 := dkwX2_start_4 ++ dktX2_start_5
def dkwX2_start_3 : List UInt8 := [29, 184, 0, 163, 3, 79, 132, 3, 1, 167, 255, 235, 42, 180, 0, 22, 28, 3, 184, 0, 163, 4, 79, 42]
abbrev dktX2_start_3 : List UInt8 := dkwX2_start_3 ++ dktX2_start_4
def dkwX2_start_2 : List UInt8 := [4, 160, 0, 9, 132, 2, 1, 167, 255, 239, 3, 62, 29, 17, 4, 238, 162, 0, 20, 42, 180, 0, 22, 28]
abbrev dktX2_start_2 : List UInt8 := dkwX2_start_2 ++ dktX2_start_3
def dkwX2_start_1 : List UInt8 := [42, 182, 0, 236, 16, 6, 160, 0, 6, 16, 252, 172, 3, 61, 42, 180, 0, 22, 28, 3, 184, 0, 163, 46]
abbrev dktX2_start_1 : List UInt8 := dkwX2_start_1 ++ dktX2_start_2
def dkwX2_start_0 : List UInt8 := [27, 184, 0, 138, 154, 0, 5, 2, 172, 42, 180, 0, 22, 16, 17, 27, 96, 46, 154, 0, 6, 16, 253, 172]
abbrev dktX2_start_0 : List UInt8 := dkwX2_start_0 ++ dktX2_start_1
theorem dksX2_start_0 : cX2_start.data.toList.drop 0 = dktX2_start_0 := by decide +kernel
theorem dksX2_start_1 : cX2_start.data.toList.drop 24 = dktX2_start_1 := dk_seg dksX2_start_0 24 rfl rfl
theorem dksX2_start_2 : cX2_start.data.toList.drop 48 = dktX2_start_2 := dk_seg dksX2_start_1 24 rfl rfl
theorem dksX2_start_3 : cX2_start.data.toList.drop 72 = dktX2_start_3 := dk_seg dksX2_start_2 24 rfl rfl
theorem dksX2_start_4 : cX2_start.data.toList.drop 96 = dktX2_start_4 := dk_seg dksX2_start_3 24 rfl rfl
theorem dksX2_start_5 : cX2_start.data.toList.drop 119 = dktX2_start_5 := dk_seg dksX2_start_4 23 rfl rfl
theorem dksX2_start_6 : cX2_start.data.toList.drop 143 = dktX2_start_6 := dk_seg dksX2_start_5 24 rfl rfl
theorem dksX2_start_7 : cX2_start.data.toList.drop 167 = dktX2_start_7 := dk_seg dksX2_start_6 24 rfl rfl
theorem dX2_start_0 : decode cX2_start 0 = .ok (.iload_n 1, 1) := dk_27 (dk_at dksX2_start_0 0 rfl rfl)
theorem dX2_start_1 : decode cX2_start 1 = .ok (.invokestatic 138, 3) := dk_184 0 138 (dk_at dksX2_start_0 1 rfl rfl)
theorem dX2_start_4 : decode cX2_start 4 = .ok (.ifCond .ne 5, 3) := dk_154 0 5 (dk_at dksX2_start_0 4 rfl rfl)
theorem dX2_start_7 : decode cX2_start 7 = .ok (.iconst (-1), 1) := dk_2 (dk_at dksX2_start_0 7 rfl rfl)
theorem dX2_start_8 : decode cX2_start 8 = .ok (.ireturn, 1) := dk_172 (dk_at dksX2_start_0 8 rfl rfl)
theorem dX2_start_9 : decode cX2_start 9 = .ok (.aload_n 0, 1) := dk_42 (dk_at dksX2_start_0 9 rfl rfl)
theorem dX2_start_10 : decode cX2_start 10 = .ok (.getfield 22, 3) := dk_180 0 22 (dk_at dksX2_start_0 10 rfl rfl)
theorem dX2_start_13 : decode cX2_start 13 = .ok (.bipush 17, 2) := dk_16 17 (dk_at dksX2_start_0 13 rfl rfl)
theorem dX2_start_15 : decode cX2_start 15 = .ok (.iload_n 1, 1) := dk_27 (dk_at dksX2_start_0 15 rfl rfl)
theorem dX2_start_16 : decode cX2_start 16 = .ok (.iadd, 1) := dk_96 (dk_at dksX2_start_0 16 rfl rfl)
theorem dX2_start_17 : decode cX2_start 17 = .ok (.iaload, 1) := dk_46 (dk_at dksX2_start_0 17 rfl rfl)
theorem dX2_start_18 : decode cX2_start 18 = .ok (.ifCond .ne 6, 3) := dk_154 0 6 (dk_at dksX2_start_0 18 rfl rfl)
theorem dX2_start_21 : decode cX2_start 21 = .ok (.bipush (-3), 2) := dk_16 253 (dk_at dksX2_start_0 21 rfl rfl)
theorem dX2_start_23 : decode cX2_start 23 = .ok (.ireturn, 1) := dk_172 (dk_at dksX2_start_0 23 rfl rfl)
theorem dX2_start_24 : decode cX2_start 24 = .ok (.aload_n 0, 1) := dk_42 (dk_at dksX2_start_1 0 rfl rfl)
theorem dX2_start_25 : decode cX2_start 25 = .ok (.invokevirtual 236, 3) := dk_182 0 236 (dk_at dksX2_start_1 1 rfl rfl)
theorem dX2_start_28 : decode cX2_start 28 = .ok (.bipush 6, 2) := dk_16 6 (dk_at dksX2_start_1 4 rfl rfl)
theorem dX2_start_30 : decode cX2_start 30 = .ok (.if_icmp .ne 6, 3) := dk_160 0 6 (dk_at dksX2_start_1 6 rfl rfl)
theorem dX2_start_33 : decode cX2_start 33 = .ok (.bipush (-4), 2) := dk_16 252 (dk_at dksX2_start_1 9 rfl rfl)
theorem dX2_start_35 : decode cX2_start 35 = .ok (.ireturn, 1) := dk_172 (dk_at dksX2_start_1 11 rfl rfl)
theorem dX2_start_36 : decode cX2_start 36 = .ok (.iconst 0, 1) := dk_3 (dk_at dksX2_start_1 12 rfl rfl)
theorem dX2_start_37 : decode cX2_start 37 = .ok (.istore_n 2, 1) := dk_61 (dk_at dksX2_start_1 13 rfl rfl)
theorem dX2_start_38 : decode cX2_start 38 = .ok (.aload_n 0, 1) := dk_42 (dk_at dksX2_start_1 14 rfl rfl)
theorem dX2_start_39 : decode cX2_start 39 = .ok (.getfield 22, 3) := dk_180 0 22 (dk_at dksX2_start_1 15 rfl rfl)
theorem dX2_start_42 : decode cX2_start 42 = .ok (.iload_n 2, 1) := dk_28 (dk_at dksX2_start_1 18 rfl rfl)
theorem dX2_start_43 : decode cX2_start 43 = .ok (.iconst 0, 1) := dk_3 (dk_at dksX2_start_1 19 rfl rfl)
theorem dX2_start_44 : decode cX2_start 44 = .ok (.invokestatic 163, 3) := dk_184 0 163 (dk_at dksX2_start_1 20 rfl rfl)
theorem dX2_start_47 : decode cX2_start 47 = .ok (.iaload, 1) := dk_46 (dk_at dksX2_start_1 23 rfl rfl)
theorem dX2_start_48 : decode cX2_start 48 = .ok (.iconst 1, 1) := dk_4 (dk_at dksX2_start_2 0 rfl rfl)
theorem dX2_start_49 : decode cX2_start 49 = .ok (.if_icmp .ne 9, 3) := dk_160 0 9 (dk_at dksX2_start_2 1 rfl rfl)
theorem dX2_start_52 : decode cX2_start 52 = .ok (.iinc 2 1, 3) := dk_132 2 1 (dk_at dksX2_start_2 4 rfl rfl)
theorem dX2_start_55 : decode cX2_start 55 = .ok (.goto (-17), 3) := dk_167 255 239 (dk_at dksX2_start_2 7 rfl rfl)
theorem dX2_start_58 : decode cX2_start 58 = .ok (.iconst 0, 1) := dk_3 (dk_at dksX2_start_2 10 rfl rfl)
theorem dX2_start_59 : decode cX2_start 59 = .ok (.istore_n 3, 1) := dk_62 (dk_at dksX2_start_2 11 rfl rfl)
theorem dX2_start_60 : decode cX2_start 60 = .ok (.iload_n 3, 1) := dk_29 (dk_at dksX2_start_2 12 rfl rfl)
theorem dX2_start_61 : decode cX2_start 61 = .ok (.sipush 1262, 3) := dk_17 4 238 (dk_at dksX2_start_2 13 rfl rfl)
theorem dX2_start_64 : decode cX2_start 64 = .ok (.if_icmp .ge 20, 3) := dk_162 0 20 (dk_at dksX2_start_2 16 rfl rfl)
theorem dX2_start_67 : decode cX2_start 67 = .ok (.aload_n 0, 1) := dk_42 (dk_at dksX2_start_2 19 rfl rfl)
theorem dX2_start_68 : decode cX2_start 68 = .ok (.getfield 22, 3) := dk_180 0 22 (dk_at dksX2_start_2 20 rfl rfl)
theorem dX2_start_71 : decode cX2_start 71 = .ok (.iload_n 2, 1) := dk_28 (dk_at dksX2_start_2 23 rfl rfl)
theorem dX2_start_72 : decode cX2_start 72 = .ok (.iload_n 3, 1) := dk_29 (dk_at dksX2_start_3 0 rfl rfl)
theorem dX2_start_73 : decode cX2_start 73 = .ok (.invokestatic 163, 3) := dk_184 0 163 (dk_at dksX2_start_3 1 rfl rfl)
theorem dX2_start_76 : decode cX2_start 76 = .ok (.iconst 0, 1) := dk_3 (dk_at dksX2_start_3 4 rfl rfl)
theorem dX2_start_77 : decode cX2_start 77 = .ok (.iastore, 1) := dk_79 (dk_at dksX2_start_3 5 rfl rfl)
theorem dX2_start_78 : decode cX2_start 78 = .ok (.iinc 3 1, 3) := dk_132 3 1 (dk_at dksX2_start_3 6 rfl rfl)
theorem dX2_start_81 : decode cX2_start 81 = .ok (.goto (-21), 3) := dk_167 255 235 (dk_at dksX2_start_3 9 rfl rfl)
theorem dX2_start_84 : decode cX2_start 84 = .ok (.aload_n 0, 1) := dk_42 (dk_at dksX2_start_3 12 rfl rfl)
theorem dX2_start_85 : decode cX2_start 85 = .ok (.getfield 22, 3) := dk_180 0 22 (dk_at dksX2_start_3 13 rfl rfl)
theorem dX2_start_88 : decode cX2_start 88 = .ok (.iload_n 2, 1) := dk_28 (dk_at dksX2_start_3 16 rfl rfl)
theorem dX2_start_89 : decode cX2_start 89 = .ok (.iconst 0, 1) := dk_3 (dk_at dksX2_start_3 17 rfl rfl)
theorem dX2_start_90 : decode cX2_start 90 = .ok (.invokestatic 163, 3) := dk_184 0 163 (dk_at dksX2_start_3 18 rfl rfl)
theorem dX2_start_93 : decode cX2_start 93 = .ok (.iconst 1, 1) := dk_4 (dk_at dksX2_start_3 21 rfl rfl)
theorem dX2_start_94 : decode cX2_start 94 = .ok (.iastore, 1) := dk_79 (dk_at dksX2_start_3 22 rfl rfl)
theorem dX2_start_95 : decode cX2_start 95 = .ok (.aload_n 0, 1) := dk_42 (dk_at dksX2_start_3 23 rfl rfl)
theorem dX2_start_96 : decode cX2_start 96 = .ok (.getfield 22, 3) := dk_180 0 22 (dk_at dksX2_start_4 0 rfl rfl)
theorem dX2_start_99 : decode cX2_start 99 = .ok (.iload_n 2, 1) := dk_28 (dk_at dksX2_start_4 3 rfl rfl)
theorem dX2_start_100 : decode cX2_start 100 = .ok (.iconst 2, 1) := dk_5 (dk_at dksX2_start_4 4 rfl rfl)
theorem dX2_start_101 : decode cX2_start 101 = .ok (.invokestatic 163, 3) := dk_184 0 163 (dk_at dksX2_start_4 5 rfl rfl)
theorem dX2_start_104 : decode cX2_start 104 = .ok (.iload_n 1, 1) := dk_27 (dk_at dksX2_start_4 8 rfl rfl)
theorem dX2_start_105 : decode cX2_start 105 = .ok (.iastore, 1) := dk_79 (dk_at dksX2_start_4 9 rfl rfl)
theorem dX2_start_106 : decode cX2_start 106 = .ok (.aload_n 0, 1) := dk_42 (dk_at dksX2_start_4 10 rfl rfl)
theorem dX2_start_107 : decode cX2_start 107 = .ok (.getfield 22, 3) := dk_180 0 22 (dk_at dksX2_start_4 11 rfl rfl)
theorem dX2_start_110 : decode cX2_start 110 = .ok (.iload_n 2, 1) := dk_28 (dk_at dksX2_start_4 14 rfl rfl)
theorem dX2_start_111 : decode cX2_start 111 = .ok (.iconst 3, 1) := dk_6 (dk_at dksX2_start_4 15 rfl rfl)
theorem dX2_start_112 : decode cX2_start 112 = .ok (.invokestatic 163, 3) := dk_184 0 163 (dk_at dksX2_start_4 16 rfl rfl)
theorem dX2_start_115 : decode cX2_start 115 = .ok (.aload_n 0, 1) := dk_42 (dk_at dksX2_start_4 19 rfl rfl)
theorem dX2_start_116 : decode cX2_start 116 = .ok (.getfield 22, 3) := dk_180 0 22 (dk_at dksX2_start_4 20 rfl rfl)
theorem dX2_start_119 : decode cX2_start 119 = .ok (.bipush 17, 2) := dk_16 17 (dk_at dksX2_start_5 0 rfl rfl)
theorem dX2_start_121 : decode cX2_start 121 = .ok (.iload_n 1, 1) := dk_27 (dk_at dksX2_start_5 2 rfl rfl)
theorem dX2_start_122 : decode cX2_start 122 = .ok (.iadd, 1) := dk_96 (dk_at dksX2_start_5 3 rfl rfl)
theorem dX2_start_123 : decode cX2_start 123 = .ok (.iaload, 1) := dk_46 (dk_at dksX2_start_5 4 rfl rfl)
theorem dX2_start_124 : decode cX2_start 124 = .ok (.iconst 1, 1) := dk_4 (dk_at dksX2_start_5 5 rfl rfl)
theorem dX2_start_125 : decode cX2_start 125 = .ok (.isub, 1) := dk_100 (dk_at dksX2_start_5 6 rfl rfl)
theorem dX2_start_126 : decode cX2_start 126 = .ok (.iastore, 1) := dk_79 (dk_at dksX2_start_5 7 rfl rfl)
theorem dX2_start_127 : decode cX2_start 127 = .ok (.aload_n 0, 1) := dk_42 (dk_at dksX2_start_5 8 rfl rfl)
theorem dX2_start_128 : decode cX2_start 128 = .ok (.getfield 22, 3) := dk_180 0 22 (dk_at dksX2_start_5 9 rfl rfl)
theorem dX2_start_131 : decode cX2_start 131 = .ok (.iload_n 2, 1) := dk_28 (dk_at dksX2_start_5 12 rfl rfl)
theorem dX2_start_132 : decode cX2_start 132 = .ok (.iconst 4, 1) := dk_7 (dk_at dksX2_start_5 13 rfl rfl)
theorem dX2_start_133 : decode cX2_start 133 = .ok (.invokestatic 163, 3) := dk_184 0 163 (dk_at dksX2_start_5 14 rfl rfl)
theorem dX2_start_136 : decode cX2_start 136 = .ok (.aload_n 0, 1) := dk_42 (dk_at dksX2_start_5 17 rfl rfl)
theorem dX2_start_137 : decode cX2_start 137 = .ok (.getfield 22, 3) := dk_180 0 22 (dk_at dksX2_start_5 18 rfl rfl)
theorem dX2_start_140 : decode cX2_start 140 = .ok (.iconst 0, 1) := dk_3 (dk_at dksX2_start_5 21 rfl rfl)
theorem dX2_start_141 : decode cX2_start 141 = .ok (.iaload, 1) := dk_46 (dk_at dksX2_start_5 22 rfl rfl)
theorem dX2_start_142 : decode cX2_start 142 = .ok (.iastore, 1) := dk_79 (dk_at dksX2_start_5 23 rfl rfl)
theorem dX2_start_143 : decode cX2_start 143 = .ok (.aload_n 0, 1) := dk_42 (dk_at dksX2_start_6 0 rfl rfl)
theorem dX2_start_144 : decode cX2_start 144 = .ok (.getfield 22, 3) := dk_180 0 22 (dk_at dksX2_start_6 1 rfl rfl)
theorem dX2_start_147 : decode cX2_start 147 = .ok (.iload_n 2, 1) := dk_28 (dk_at dksX2_start_6 4 rfl rfl)
theorem dX2_start_148 : decode cX2_start 148 = .ok (.iconst 5, 1) := dk_8 (dk_at dksX2_start_6 5 rfl rfl)
theorem dX2_start_149 : decode cX2_start 149 = .ok (.invokestatic 163, 3) := dk_184 0 163 (dk_at dksX2_start_6 6 rfl rfl)
theorem dX2_start_152 : decode cX2_start 152 = .ok (.bipush (-5), 2) := dk_16 251 (dk_at dksX2_start_6 9 rfl rfl)
theorem dX2_start_154 : decode cX2_start 154 = .ok (.iastore, 1) := dk_79 (dk_at dksX2_start_6 11 rfl rfl)
theorem dX2_start_155 : decode cX2_start 155 = .ok (.iconst 0, 1) := dk_3 (dk_at dksX2_start_6 12 rfl rfl)
theorem dX2_start_156 : decode cX2_start 156 = .ok (.istore_n 3, 1) := dk_62 (dk_at dksX2_start_6 13 rfl rfl)
theorem dX2_start_157 : decode cX2_start 157 = .ok (.iload_n 3, 1) := dk_29 (dk_at dksX2_start_6 14 rfl rfl)
theorem dX2_start_158 : decode cX2_start 158 = .ok (.bipush 64, 2) := dk_16 64 (dk_at dksX2_start_6 15 rfl rfl)
theorem dX2_start_160 : decode cX2_start 160 = .ok (.if_icmp .ge 22, 3) := dk_162 0 22 (dk_at dksX2_start_6 17 rfl rfl)
theorem dX2_start_163 : decode cX2_start 163 = .ok (.aload_n 0, 1) := dk_42 (dk_at dksX2_start_6 20 rfl rfl)
theorem dX2_start_164 : decode cX2_start 164 = .ok (.getfield 22, 3) := dk_180 0 22 (dk_at dksX2_start_6 21 rfl rfl)
theorem dX2_start_167 : decode cX2_start 167 = .ok (.iload_n 2, 1) := dk_28 (dk_at dksX2_start_7 0 rfl rfl)
theorem dX2_start_168 : decode cX2_start 168 = .ok (.iload_n 3, 1) := dk_29 (dk_at dksX2_start_7 1 rfl rfl)
theorem dX2_start_169 : decode cX2_start 169 = .ok (.bipush 7, 2) := dk_16 7 (dk_at dksX2_start_7 2 rfl rfl)
theorem dX2_start_171 : decode cX2_start 171 = .ok (.invokestatic 169, 3) := dk_184 0 169 (dk_at dksX2_start_7 4 rfl rfl)
theorem dX2_start_174 : decode cX2_start 174 = .ok (.iconst (-1), 1) := dk_2 (dk_at dksX2_start_7 7 rfl rfl)
theorem dX2_start_175 : decode cX2_start 175 = .ok (.iastore, 1) := dk_79 (dk_at dksX2_start_7 8 rfl rfl)
theorem dX2_start_176 : decode cX2_start 176 = .ok (.iinc 3 1, 3) := dk_132 3 1 (dk_at dksX2_start_7 9 rfl rfl)
theorem dX2_start_179 : decode cX2_start 179 = .ok (.goto (-22), 3) := dk_167 255 234 (dk_at dksX2_start_7 12 rfl rfl)
theorem dX2_start_182 : decode cX2_start 182 = .ok (.aload_n 0, 1) := dk_42 (dk_at dksX2_start_7 15 rfl rfl)
theorem dX2_start_183 : decode cX2_start 183 = .ok (.iload_n 2, 1) := dk_28 (dk_at dksX2_start_7 16 rfl rfl)
theorem dX2_start_184 : decode cX2_start 184 = .ok (.invokevirtual 239, 3) := dk_182 0 239 (dk_at dksX2_start_7 17 rfl rfl)
theorem dX2_start_187 : decode cX2_start 187 = .ok (.iload_n 2, 1) := dk_28 (dk_at dksX2_start_7 20 rfl rfl)
theorem dX2_start_188 : decode cX2_start 188 = .ok (.ireturn, 1) := dk_172 (dk_at dksX2_start_7 21 rfl rfl)
def t_X2_start (p1 : Int32) (w0 : TS) : Option (Int32 × TS) := gB2 (t_X2_isWorkflow p1 w0) fun x2 w1 => if x2 = 0 then some ((-1), w1) else gB1 (tLd w1 5 ((nI 17) + p1)) fun x4 => if x4 = 0 then some ((-3), w1) else gB2 (t_X2_instances  w1) fun x7 w6 => if x7 = (nI 6) then some ((-4), w6) else gL2 (fun k12 (x10 : Int32) (x11 : Int32) (w9 : TS) => gB2 (t_X2_of x11 (nI 0) w9) fun x14 w13 => gB1 (tLd w13 5 x14) fun x15 => if x15 = (nI 1) then gBd (x11 + (nI 1)) fun x54 => k12 x10 x54 w13 else gL3 (fun k21 (x18 : Int32) (x19 : Int32) (x20 : Int32) (w17 : TS) => if (nI 1262) ≤ x20 then gB2 (t_X2_of x19 (nI 0) w17) fun x24 w23 => gB1 (tSt w23 5 x24 (nI 1)) fun w25 => gB2 (t_X2_of x19 (nI 2) w25) fun x27 w26 => gB1 (tSt w26 5 x27 x18) fun w28 => gB2 (t_X2_of x19 (nI 3) w28) fun x30 w29 => gB1 (tLd w29 5 ((nI 17) + x18)) fun x31 => gB1 (tSt w29 5 x30 (x31 - (nI 1))) fun w32 => gB2 (t_X2_of x19 (nI 4) w32) fun x34 w33 => gB1 (tLd w33 5 (nI 0)) fun x35 => gB1 (tSt w33 5 x34 x35) fun w36 => gB2 (t_X2_of x19 (nI 5) w36) fun x38 w37 => gB1 (tSt w37 5 x38 (-5)) fun w39 => gL2 (fun k43 (x41 : Int32) (x42 : Int32) (w40 : TS) => if (nI 64) ≤ x42 then gB2 (t_X2_looksAt x41 w40) fun _ w45 => some (x41, w45) else gB2 (t_X2_at x41 x42 (nI 7) w40) fun x47 w46 => gB1 (tSt w46 5 x47 (-1)) fun w48 => gBd (x42 + (nI 1)) fun x49 => k43 x41 x49 w48) 20000 x19 (nI 0) w39 else gB2 (t_X2_of x19 x20 w17) fun x51 w50 => gB1 (tSt w50 5 x51 (nI 0)) fun w52 => gBd (x20 + (nI 1)) fun x53 => k21 x18 x19 x53 w52) 20000 x10 x11 (nI 0) w13) 20000 p1 (nI 0) w6
set_option maxHeartbeats 4000000 in
set_option maxRecDepth 100000 in
theorem kt_X2_start {D : va_G} {dA : Nat → ClassId} {A : Nat → Prop} {K : Nat → Nat} {l : Launch} {wb : gw} {ad : Nat → Nat} (hinj : tInj ad) {h : Nat} (hh : 67 ≤ h) {p1 : Int32} {w0 ww : TS} {rr : Int32} (hf : t_X2_start p1 w0 = some (rr, ww)) : gMet D dA A K l yX2_start (ws_ yX2_start cX2_start 4 (some .int)) h [(ga (some (ad 0))), (gi p1)] (some (gi rr)) (twOf wb ad w0) (twOf wb ad ww) := by
  refine j_start (own := RX2) (by decide +kernel) rfl (Nat.le_of_ble_eq_true rfl) ?_
  intro p e R s m args below meth c C hr hin hw
  unfold t_X2_start at hf
  show gJ D dA A K p l e R s m args below meth c (gEnd D dA A K below args s (twOf wb ad w0) (some (gi rr)) (twOf wb ad ww)) 4 0 [(0, (ga (some (ad 0)))), (1, (gi p1))] [] (twOf wb ad w0)
  refine j_iload_n C dX2_start_0 rfl ?_
  replace hf := gB2_e hf
  obtain ⟨x2, w1, ew1, hf⟩ := hf
  refine j_callS (As := [(gi p1)]) (rest := []) (v := (some (gi x2))) C (by omega) (kt_X2_isWorkflow hinj (by omega) ew1) q1669 q1670 q93 q1671 hd_X2_isWorkflow (by decide) rfl (Nat.le_of_ble_eq_true rfl) dX2_start_1 ?_
  refine j_if_ne (tgt := 9) C dX2_start_4 (by decide) (fun c3 => ?_) (fun c3 => ?_)
  · replace hf := gIf_f hf c3
    refine j_aload_n C dX2_start_9 rfl ?_
    refine j_get (v := (ga (some (ad 5)))) C fl_X2_22_2 dX2_start_10 (tw_F hinj rfl) ?_
    refine j_bipush (v := (nI 17)) C dX2_start_13 (by decide) ?_
    refine j_iload_n C dX2_start_15 rfl ?_
    refine j_iadd C dX2_start_16 ?_
    replace hf := gB1_e hf
    obtain ⟨x4, ex4, hf⟩ := hf
    refine j_iald C (tw_ld hinj ex4) dX2_start_17 ?_
    refine j_if_ne (tgt := 24) C dX2_start_18 (by decide) (fun c5 => ?_) (fun c5 => ?_)
    · replace hf := gIf_f hf c5
      refine j_aload_n C dX2_start_24 rfl ?_
      replace hf := gB2_e hf
      obtain ⟨x7, w6, ew6, hf⟩ := hf
      refine j_callV (As := []) (rest := []) (v := (some (gi x7))) C (by omega) (kt_X2_instances hinj (by omega) ew6) (tw_cls hinj) rfl q1794 q1796 qs57 q93 q1797 ⟨rfl, hd_X2_instances⟩ (by decide) rfl (Nat.le_of_ble_eq_true rfl) dX2_start_25 ?_
      refine j_bipush (v := (nI 6)) C dX2_start_28 (by decide) ?_
      refine j_icmp_ne (tgt := 36) C dX2_start_30 (by decide) (fun c8 => ?_) (fun c8 => ?_)
      · replace hf := gIf_f hf c8
        refine j_iconst (v := (nI 0)) C dX2_start_36 (by decide) ?_
        refine j_istore_n (lv' := [(2, (gi (nI 0))), (0, (ga (some (ad 0)))), (1, (gi p1))]) C dX2_start_37 (by decide) rfl ?_
        refine j_sub (lv' := [(0, (ga (some (ad 0)))), (1, (gi p1)), (2, (gi (nI 0)))]) (gL_cons rfl (gL_cons rfl (gL_cons rfl (gL_nil)))) ?_
        refine gL2_e (fun (x10 : Int32) (x11 : Int32) (w9 : TS) => gJ D dA A K p l e R s m args below meth c (gEnd D dA A K below args s (twOf wb ad w0) (some (gi rr)) (twOf wb ad ww)) 4 38 [(0, (ga (some (ad 0)))), (1, (gi x10)), (2, (gi x11))] [] (twOf wb ad w9)) ?_ _ _ _ _ hf
        intro k12 jk12 x10 x11 w9 hf
        refine j_aload_n C dX2_start_38 rfl ?_
        refine j_get (v := (ga (some (ad 5)))) C fl_X2_22_2 dX2_start_39 (tw_F hinj rfl) ?_
        refine j_iload_n C dX2_start_42 rfl ?_
        refine j_iconst (v := (nI 0)) C dX2_start_43 (by decide) ?_
        replace hf := gB2_e hf
        obtain ⟨x14, w13, ew13, hf⟩ := hf
        refine j_callS (As := [(gi x11), (gi (nI 0))]) (rest := [(ga (some (ad 5)))]) (v := (some (gi x14))) C (by omega) (kt_X2_of hinj (by omega) ew13) q1798 q1799 q93 q1800 hd_X2_of (by decide) rfl (Nat.le_of_ble_eq_true rfl) dX2_start_44 ?_
        replace hf := gB1_e hf
        obtain ⟨x15, ex15, hf⟩ := hf
        refine j_iald C (tw_ld hinj ex15) dX2_start_47 ?_
        refine j_iconst (v := (nI 1)) C dX2_start_48 (by decide) ?_
        refine j_icmp_ne (tgt := 58) C dX2_start_49 (by decide) (fun c16 => ?_) (fun c16 => ?_)
        · replace hf := gIf_f hf c16
          refine j_iconst (v := (nI 0)) C dX2_start_58 (by decide) ?_
          refine j_istore_n (lv' := [(3, (gi (nI 0))), (0, (ga (some (ad 0)))), (1, (gi x10)), (2, (gi x11))]) C dX2_start_59 (by decide) rfl ?_
          refine j_sub (lv' := [(0, (ga (some (ad 0)))), (1, (gi x10)), (2, (gi x11)), (3, (gi (nI 0)))]) (gL_cons rfl (gL_cons rfl (gL_cons rfl (gL_cons rfl (gL_nil))))) ?_
          refine gL3_e (fun (x18 : Int32) (x19 : Int32) (x20 : Int32) (w17 : TS) => gJ D dA A K p l e R s m args below meth c (gEnd D dA A K below args s (twOf wb ad w0) (some (gi rr)) (twOf wb ad ww)) 4 60 [(0, (ga (some (ad 0)))), (1, (gi x18)), (2, (gi x19)), (3, (gi x20))] [] (twOf wb ad w17)) ?_ _ _ _ _ _ hf
          intro k21 jk21 x18 x19 x20 w17 hf
          refine j_iload_n C dX2_start_60 rfl ?_
          refine j_sipush (v := (nI 1262)) C dX2_start_61 (by decide) ?_
          refine j_icmp_ge (tgt := 84) C dX2_start_64 (by decide) (fun c22 => ?_) (fun c22 => ?_)
          · replace hf := gIf_t hf c22
            refine j_aload_n C dX2_start_84 rfl ?_
            refine j_get (v := (ga (some (ad 5)))) C fl_X2_22_2 dX2_start_85 (tw_F hinj rfl) ?_
            refine j_iload_n C dX2_start_88 rfl ?_
            refine j_iconst (v := (nI 0)) C dX2_start_89 (by decide) ?_
            replace hf := gB2_e hf
            obtain ⟨x24, w23, ew23, hf⟩ := hf
            refine j_callS (As := [(gi x19), (gi (nI 0))]) (rest := [(ga (some (ad 5)))]) (v := (some (gi x24))) C (by omega) (kt_X2_of hinj (by omega) ew23) q1798 q1799 q93 q1800 hd_X2_of (by decide) rfl (Nat.le_of_ble_eq_true rfl) dX2_start_90 ?_
            refine j_iconst (v := (nI 1)) C dX2_start_93 (by decide) ?_
            replace hf := gB1_e hf
            obtain ⟨w25, ew25, hf⟩ := hf
            refine j_iast C (tw_st hinj ew25) dX2_start_94 ?_
            refine j_aload_n C dX2_start_95 rfl ?_
            refine j_get (v := (ga (some (ad 5)))) C fl_X2_22_2 dX2_start_96 (tw_F hinj rfl) ?_
            refine j_iload_n C dX2_start_99 rfl ?_
            refine j_iconst (v := (nI 2)) C dX2_start_100 (by decide) ?_
            replace hf := gB2_e hf
            obtain ⟨x27, w26, ew26, hf⟩ := hf
            refine j_callS (As := [(gi x19), (gi (nI 2))]) (rest := [(ga (some (ad 5)))]) (v := (some (gi x27))) C (by omega) (kt_X2_of hinj (by omega) ew26) q1798 q1799 q93 q1800 hd_X2_of (by decide) rfl (Nat.le_of_ble_eq_true rfl) dX2_start_101 ?_
            refine j_iload_n C dX2_start_104 rfl ?_
            replace hf := gB1_e hf
            obtain ⟨w28, ew28, hf⟩ := hf
            refine j_iast C (tw_st hinj ew28) dX2_start_105 ?_
            refine j_aload_n C dX2_start_106 rfl ?_
            refine j_get (v := (ga (some (ad 5)))) C fl_X2_22_2 dX2_start_107 (tw_F hinj rfl) ?_
            refine j_iload_n C dX2_start_110 rfl ?_
            refine j_iconst (v := (nI 3)) C dX2_start_111 (by decide) ?_
            replace hf := gB2_e hf
            obtain ⟨x30, w29, ew29, hf⟩ := hf
            refine j_callS (As := [(gi x19), (gi (nI 3))]) (rest := [(ga (some (ad 5)))]) (v := (some (gi x30))) C (by omega) (kt_X2_of hinj (by omega) ew29) q1798 q1799 q93 q1800 hd_X2_of (by decide) rfl (Nat.le_of_ble_eq_true rfl) dX2_start_112 ?_
            refine j_aload_n C dX2_start_115 rfl ?_
            refine j_get (v := (ga (some (ad 5)))) C fl_X2_22_2 dX2_start_116 (tw_F hinj rfl) ?_
            refine j_bipush (v := (nI 17)) C dX2_start_119 (by decide) ?_
            refine j_iload_n C dX2_start_121 rfl ?_
            refine j_iadd C dX2_start_122 ?_
            replace hf := gB1_e hf
            obtain ⟨x31, ex31, hf⟩ := hf
            refine j_iald C (tw_ld hinj ex31) dX2_start_123 ?_
            refine j_iconst (v := (nI 1)) C dX2_start_124 (by decide) ?_
            refine j_isub C dX2_start_125 ?_
            replace hf := gB1_e hf
            obtain ⟨w32, ew32, hf⟩ := hf
            refine j_iast C (tw_st hinj ew32) dX2_start_126 ?_
            refine j_aload_n C dX2_start_127 rfl ?_
            refine j_get (v := (ga (some (ad 5)))) C fl_X2_22_2 dX2_start_128 (tw_F hinj rfl) ?_
            refine j_iload_n C dX2_start_131 rfl ?_
            refine j_iconst (v := (nI 4)) C dX2_start_132 (by decide) ?_
            replace hf := gB2_e hf
            obtain ⟨x34, w33, ew33, hf⟩ := hf
            refine j_callS (As := [(gi x19), (gi (nI 4))]) (rest := [(ga (some (ad 5)))]) (v := (some (gi x34))) C (by omega) (kt_X2_of hinj (by omega) ew33) q1798 q1799 q93 q1800 hd_X2_of (by decide) rfl (Nat.le_of_ble_eq_true rfl) dX2_start_133 ?_
            refine j_aload_n C dX2_start_136 rfl ?_
            refine j_get (v := (ga (some (ad 5)))) C fl_X2_22_2 dX2_start_137 (tw_F hinj rfl) ?_
            refine j_iconst (v := (nI 0)) C dX2_start_140 (by decide) ?_
            replace hf := gB1_e hf
            obtain ⟨x35, ex35, hf⟩ := hf
            refine j_iald C (tw_ld hinj ex35) dX2_start_141 ?_
            replace hf := gB1_e hf
            obtain ⟨w36, ew36, hf⟩ := hf
            refine j_iast C (tw_st hinj ew36) dX2_start_142 ?_
            refine j_aload_n C dX2_start_143 rfl ?_
            refine j_get (v := (ga (some (ad 5)))) C fl_X2_22_2 dX2_start_144 (tw_F hinj rfl) ?_
            refine j_iload_n C dX2_start_147 rfl ?_
            refine j_iconst (v := (nI 5)) C dX2_start_148 (by decide) ?_
            replace hf := gB2_e hf
            obtain ⟨x38, w37, ew37, hf⟩ := hf
            refine j_callS (As := [(gi x19), (gi (nI 5))]) (rest := [(ga (some (ad 5)))]) (v := (some (gi x38))) C (by omega) (kt_X2_of hinj (by omega) ew37) q1798 q1799 q93 q1800 hd_X2_of (by decide) rfl (Nat.le_of_ble_eq_true rfl) dX2_start_149 ?_
            refine j_bipush (v := (-5)) C dX2_start_152 (by decide) ?_
            replace hf := gB1_e hf
            obtain ⟨w39, ew39, hf⟩ := hf
            refine j_iast C (tw_st hinj ew39) dX2_start_154 ?_
            refine j_iconst (v := (nI 0)) C dX2_start_155 (by decide) ?_
            refine j_istore_n (lv' := [(3, (gi (nI 0))), (0, (ga (some (ad 0)))), (1, (gi x18)), (2, (gi x19))]) C dX2_start_156 (by decide) rfl ?_
            refine j_sub (lv' := [(0, (ga (some (ad 0)))), (2, (gi x19)), (3, (gi (nI 0)))]) (gL_cons rfl (gL_cons rfl (gL_cons rfl (gL_nil)))) ?_
            refine gL2_e (fun (x41 : Int32) (x42 : Int32) (w40 : TS) => gJ D dA A K p l e R s m args below meth c (gEnd D dA A K below args s (twOf wb ad w0) (some (gi rr)) (twOf wb ad ww)) 4 157 [(0, (ga (some (ad 0)))), (2, (gi x41)), (3, (gi x42))] [] (twOf wb ad w40)) ?_ _ _ _ _ hf
            intro k43 jk43 x41 x42 w40 hf
            refine j_iload_n C dX2_start_157 rfl ?_
            refine j_bipush (v := (nI 64)) C dX2_start_158 (by decide) ?_
            refine j_icmp_ge (tgt := 182) C dX2_start_160 (by decide) (fun c44 => ?_) (fun c44 => ?_)
            · replace hf := gIf_t hf c44
              refine j_aload_n C dX2_start_182 rfl ?_
              refine j_iload_n C dX2_start_183 rfl ?_
              replace hf := gB2_e hf
              obtain ⟨_, w45, ew45, hf⟩ := hf
              refine j_callV (As := [(gi x41)]) (rest := []) (v := none) C (by omega) (kt_X2_looksAt hinj (by omega) ew45) (tw_cls hinj) rfl q1804 q1806 qs58 q93 q1807 ⟨rfl, hd_X2_looksAt⟩ (by decide) rfl (Nat.le_of_ble_eq_true rfl) dX2_start_184 ?_
              refine j_iload_n C dX2_start_187 rfl ?_
              obtain ⟨rfl, rfl⟩ := gSome hf
              exact j_iret C hr hw dX2_start_188
            · replace hf := gIf_f hf c44
              refine j_aload_n C dX2_start_163 rfl ?_
              refine j_get (v := (ga (some (ad 5)))) C fl_X2_22_2 dX2_start_164 (tw_F hinj rfl) ?_
              refine j_iload_n C dX2_start_167 rfl ?_
              refine j_iload_n C dX2_start_168 rfl ?_
              refine j_bipush (v := (nI 7)) C dX2_start_169 (by decide) ?_
              replace hf := gB2_e hf
              obtain ⟨x47, w46, ew46, hf⟩ := hf
              refine j_callS (As := [(gi x41), (gi x42), (gi (nI 7))]) (rest := [(ga (some (ad 5)))]) (v := (some (gi x47))) C (by omega) (kt_X2_at hinj (by omega) ew46) q1801 q1802 q93 q1803 hd_X2_at (by decide) rfl (Nat.le_of_ble_eq_true rfl) dX2_start_171 ?_
              refine j_iconst (v := (-1)) C dX2_start_174 (by decide) ?_
              replace hf := gB1_e hf
              obtain ⟨w48, ew48, hf⟩ := hf
              refine j_iast C (tw_st hinj ew48) dX2_start_175 ?_
              replace hf := gBd_x hf
              obtain ⟨x49, ex49, hf⟩ := hf
              refine j_iinc (v := x49) (lv' := [(3, (gi x49)), (0, (ga (some (ad 0)))), (2, (gi x41))]) C dX2_start_176 rfl (by rw [ex49]; rfl) (by decide) rfl ?_
              refine j_goto (tgt := 157) C dX2_start_179 (by decide) ?_
              refine j_sub (lv' := [(0, (ga (some (ad 0)))), (2, (gi x41)), (3, (gi x49))]) (gL_cons rfl (gL_cons rfl (gL_cons rfl (gL_nil)))) ?_
              exact jk43 _ _ _ hf
          · replace hf := gIf_f hf c22
            refine j_aload_n C dX2_start_67 rfl ?_
            refine j_get (v := (ga (some (ad 5)))) C fl_X2_22_2 dX2_start_68 (tw_F hinj rfl) ?_
            refine j_iload_n C dX2_start_71 rfl ?_
            refine j_iload_n C dX2_start_72 rfl ?_
            replace hf := gB2_e hf
            obtain ⟨x51, w50, ew50, hf⟩ := hf
            refine j_callS (As := [(gi x19), (gi x20)]) (rest := [(ga (some (ad 5)))]) (v := (some (gi x51))) C (by omega) (kt_X2_of hinj (by omega) ew50) q1798 q1799 q93 q1800 hd_X2_of (by decide) rfl (Nat.le_of_ble_eq_true rfl) dX2_start_73 ?_
            refine j_iconst (v := (nI 0)) C dX2_start_76 (by decide) ?_
            replace hf := gB1_e hf
            obtain ⟨w52, ew52, hf⟩ := hf
            refine j_iast C (tw_st hinj ew52) dX2_start_77 ?_
            replace hf := gBd_x hf
            obtain ⟨x53, ex53, hf⟩ := hf
            refine j_iinc (v := x53) (lv' := [(3, (gi x53)), (0, (ga (some (ad 0)))), (1, (gi x18)), (2, (gi x19))]) C dX2_start_78 rfl (by rw [ex53]; rfl) (by decide) rfl ?_
            refine j_goto (tgt := 60) C dX2_start_81 (by decide) ?_
            refine j_sub (lv' := [(0, (ga (some (ad 0)))), (1, (gi x18)), (2, (gi x19)), (3, (gi x53))]) (gL_cons rfl (gL_cons rfl (gL_cons rfl (gL_cons rfl (gL_nil))))) ?_
            exact jk21 _ _ _ _ hf
        · replace hf := gIf_t hf c16
          replace hf := gBd_x hf
          obtain ⟨x54, ex54, hf⟩ := hf
          refine j_iinc (v := x54) (lv' := [(2, (gi x54)), (0, (ga (some (ad 0)))), (1, (gi x10))]) C dX2_start_52 rfl (by rw [ex54]; rfl) (by decide) rfl ?_
          refine j_goto (tgt := 38) C dX2_start_55 (by decide) ?_
          refine j_sub (lv' := [(0, (ga (some (ad 0)))), (1, (gi x10)), (2, (gi x54))]) (gL_cons rfl (gL_cons rfl (gL_cons rfl (gL_nil)))) ?_
          exact jk12 _ _ _ hf
      · replace hf := gIf_t hf c8
        refine j_bipush (v := (-4)) C dX2_start_33 (by decide) ?_
        obtain ⟨rfl, rfl⟩ := gSome hf
        exact j_iret C hr hw dX2_start_35
    · replace hf := gIf_t hf c5
      refine j_bipush (v := (-3)) C dX2_start_21 (by decide) ?_
      obtain ⟨rfl, rfl⟩ := gSome hf
      exact j_iret C hr hw dX2_start_23
  · replace hf := gIf_t hf c3
    refine j_iconst (v := (-1)) C dX2_start_7 (by decide) ?_
    obtain ⟨rfl, rfl⟩ := gSome hf
    exact j_iret C hr hw dX2_start_8
def dkwX2_pass_2 : List UInt8 := [180, 0, 22, 3, 46, 172]
abbrev dktX2_pass_2 : List UInt8 := dkwX2_pass_2 ++ []
def dkwX2_pass_1 : List UInt8 := [164, 0, 6, 16, 252, 172, 3, 61, 28, 27, 162, 0, 13, 42, 182, 0, 247, 132, 2, 1, 167, 255, 244, 42]
abbrev dktX2_pass_1 : List UInt8 := dkwX2_pass_1 ++ dktX2_pass_2
def dkwX2_pass_0 : List UInt8 := [27, 4, 17, 0, 200, 184, 0, 38, 154, 0, 6, 16, 254, 172, 42, 180, 0, 22, 3, 46, 27, 96, 18, 246]
abbrev dktX2_pass_0 : List UInt8 := dkwX2_pass_0 ++ dktX2_pass_1
theorem dksX2_pass_0 : cX2_pass.data.toList.drop 0 = dktX2_pass_0 := by decide +kernel
theorem dksX2_pass_1 : cX2_pass.data.toList.drop 24 = dktX2_pass_1 := dk_seg dksX2_pass_0 24 rfl rfl
theorem dksX2_pass_2 : cX2_pass.data.toList.drop 48 = dktX2_pass_2 := dk_seg dksX2_pass_1 24 rfl rfl
theorem dX2_pass_0 : decode cX2_pass 0 = .ok (.iload_n 1, 1) := dk_27 (dk_at dksX2_pass_0 0 rfl rfl)
theorem dX2_pass_1 : decode cX2_pass 1 = .ok (.iconst 1, 1) := dk_4 (dk_at dksX2_pass_0 1 rfl rfl)
theorem dX2_pass_2 : decode cX2_pass 2 = .ok (.sipush 200, 3) := dk_17 0 200 (dk_at dksX2_pass_0 2 rfl rfl)
theorem dX2_pass_5 : decode cX2_pass 5 = .ok (.invokestatic 38, 3) := dk_184 0 38 (dk_at dksX2_pass_0 5 rfl rfl)
theorem dX2_pass_8 : decode cX2_pass 8 = .ok (.ifCond .ne 6, 3) := dk_154 0 6 (dk_at dksX2_pass_0 8 rfl rfl)
theorem dX2_pass_11 : decode cX2_pass 11 = .ok (.bipush (-2), 2) := dk_16 254 (dk_at dksX2_pass_0 11 rfl rfl)
theorem dX2_pass_13 : decode cX2_pass 13 = .ok (.ireturn, 1) := dk_172 (dk_at dksX2_pass_0 13 rfl rfl)
theorem dX2_pass_14 : decode cX2_pass 14 = .ok (.aload_n 0, 1) := dk_42 (dk_at dksX2_pass_0 14 rfl rfl)
theorem dX2_pass_15 : decode cX2_pass 15 = .ok (.getfield 22, 3) := dk_180 0 22 (dk_at dksX2_pass_0 15 rfl rfl)
theorem dX2_pass_18 : decode cX2_pass 18 = .ok (.iconst 0, 1) := dk_3 (dk_at dksX2_pass_0 18 rfl rfl)
theorem dX2_pass_19 : decode cX2_pass 19 = .ok (.iaload, 1) := dk_46 (dk_at dksX2_pass_0 19 rfl rfl)
theorem dX2_pass_20 : decode cX2_pass 20 = .ok (.iload_n 1, 1) := dk_27 (dk_at dksX2_pass_0 20 rfl rfl)
theorem dX2_pass_21 : decode cX2_pass 21 = .ok (.iadd, 1) := dk_96 (dk_at dksX2_pass_0 21 rfl rfl)
theorem dX2_pass_22 : decode cX2_pass 22 = .ok (.ldc 246, 2) := dk_18 246 (dk_at dksX2_pass_0 22 rfl rfl)
theorem dX2_pass_24 : decode cX2_pass 24 = .ok (.if_icmp .le 6, 3) := dk_164 0 6 (dk_at dksX2_pass_1 0 rfl rfl)
theorem dX2_pass_27 : decode cX2_pass 27 = .ok (.bipush (-4), 2) := dk_16 252 (dk_at dksX2_pass_1 3 rfl rfl)
theorem dX2_pass_29 : decode cX2_pass 29 = .ok (.ireturn, 1) := dk_172 (dk_at dksX2_pass_1 5 rfl rfl)
theorem dX2_pass_30 : decode cX2_pass 30 = .ok (.iconst 0, 1) := dk_3 (dk_at dksX2_pass_1 6 rfl rfl)
theorem dX2_pass_31 : decode cX2_pass 31 = .ok (.istore_n 2, 1) := dk_61 (dk_at dksX2_pass_1 7 rfl rfl)
theorem dX2_pass_32 : decode cX2_pass 32 = .ok (.iload_n 2, 1) := dk_28 (dk_at dksX2_pass_1 8 rfl rfl)
theorem dX2_pass_33 : decode cX2_pass 33 = .ok (.iload_n 1, 1) := dk_27 (dk_at dksX2_pass_1 9 rfl rfl)
theorem dX2_pass_34 : decode cX2_pass 34 = .ok (.if_icmp .ge 13, 3) := dk_162 0 13 (dk_at dksX2_pass_1 10 rfl rfl)
theorem dX2_pass_37 : decode cX2_pass 37 = .ok (.aload_n 0, 1) := dk_42 (dk_at dksX2_pass_1 13 rfl rfl)
theorem dX2_pass_38 : decode cX2_pass 38 = .ok (.invokevirtual 247, 3) := dk_182 0 247 (dk_at dksX2_pass_1 14 rfl rfl)
theorem dX2_pass_41 : decode cX2_pass 41 = .ok (.iinc 2 1, 3) := dk_132 2 1 (dk_at dksX2_pass_1 17 rfl rfl)
theorem dX2_pass_44 : decode cX2_pass 44 = .ok (.goto (-12), 3) := dk_167 255 244 (dk_at dksX2_pass_1 20 rfl rfl)
theorem dX2_pass_47 : decode cX2_pass 47 = .ok (.aload_n 0, 1) := dk_42 (dk_at dksX2_pass_1 23 rfl rfl)
theorem dX2_pass_48 : decode cX2_pass 48 = .ok (.getfield 22, 3) := dk_180 0 22 (dk_at dksX2_pass_2 0 rfl rfl)
theorem dX2_pass_51 : decode cX2_pass 51 = .ok (.iconst 0, 1) := dk_3 (dk_at dksX2_pass_2 3 rfl rfl)
theorem dX2_pass_52 : decode cX2_pass 52 = .ok (.iaload, 1) := dk_46 (dk_at dksX2_pass_2 4 rfl rfl)
theorem dX2_pass_53 : decode cX2_pass 53 = .ok (.ireturn, 1) := dk_172 (dk_at dksX2_pass_2 5 rfl rfl)
def t_X2_pass (p1 : Int32) (w0 : TS) : Option (Int32 × TS) := gB2 (t_X2_isIn p1 (nI 1) (nI 200) w0) fun x2 w1 => if x2 = 0 then some ((-2), w1) else gB1 (tLd w1 5 (nI 0)) fun x4 => if (x4 + p1) ≤ (nI 99999) then gL2 (fun k9 (x7 : Int32) (x8 : Int32) (w6 : TS) => if x7 ≤ x8 then gB1 (tLd w6 5 (nI 0)) fun x11 => some (x11, w6) else gB2 (t_X2_passes  w6) fun _ w12 => gBd (x8 + (nI 1)) fun x13 => k9 x7 x13 w12) 20000 p1 (nI 0) w1 else some ((-4), w1)
set_option maxHeartbeats 4000000 in
set_option maxRecDepth 100000 in
theorem kt_X2_pass {D : va_G} {dA : Nat → ClassId} {A : Nat → Prop} {K : Nat → Nat} {l : Launch} {wb : gw} {ad : Nat → Nat} (hinj : tInj ad) {h : Nat} (hh : 68 ≤ h) {p1 : Int32} {w0 ww : TS} {rr : Int32} (hf : t_X2_pass p1 w0 = some (rr, ww)) : gMet D dA A K l yX2_pass (ws_ yX2_pass cX2_pass 3 (some .int)) h [(ga (some (ad 0))), (gi p1)] (some (gi rr)) (twOf wb ad w0) (twOf wb ad ww) := by
  refine j_start (own := RX2) (by decide +kernel) rfl (Nat.le_of_ble_eq_true rfl) ?_
  intro p e R s m args below meth c C hr hin hw
  unfold t_X2_pass at hf
  show gJ D dA A K p l e R s m args below meth c (gEnd D dA A K below args s (twOf wb ad w0) (some (gi rr)) (twOf wb ad ww)) 3 0 [(0, (ga (some (ad 0)))), (1, (gi p1))] [] (twOf wb ad w0)
  refine j_iload_n C dX2_pass_0 rfl ?_
  refine j_iconst (v := (nI 1)) C dX2_pass_1 (by decide) ?_
  refine j_sipush (v := (nI 200)) C dX2_pass_2 (by decide) ?_
  replace hf := gB2_e hf
  obtain ⟨x2, w1, ew1, hf⟩ := hf
  refine j_callS (As := [(gi p1), (gi (nI 1)), (gi (nI 200))]) (rest := []) (v := (some (gi x2))) C (by omega) (kt_X2_isIn hinj (by omega) ew1) q1662 q1663 q93 q1664 hd_X2_isIn (by decide) rfl (Nat.le_of_ble_eq_true rfl) dX2_pass_5 ?_
  refine j_if_ne (tgt := 14) C dX2_pass_8 (by decide) (fun c3 => ?_) (fun c3 => ?_)
  · replace hf := gIf_f hf c3
    refine j_aload_n C dX2_pass_14 rfl ?_
    refine j_get (v := (ga (some (ad 5)))) C fl_X2_22_2 dX2_pass_15 (tw_F hinj rfl) ?_
    refine j_iconst (v := (nI 0)) C dX2_pass_18 (by decide) ?_
    replace hf := gB1_e hf
    obtain ⟨x4, ex4, hf⟩ := hf
    refine j_iald C (tw_ld hinj ex4) dX2_pass_19 ?_
    refine j_iload_n C dX2_pass_20 rfl ?_
    refine j_iadd C dX2_pass_21 ?_
    refine j_ldc (v := (nI 99999)) C q1916 dX2_pass_22 ?_
    refine j_icmp_le (tgt := 30) C dX2_pass_24 (by decide) (fun c5 => ?_) (fun c5 => ?_)
    · replace hf := gIf_t hf c5
      refine j_iconst (v := (nI 0)) C dX2_pass_30 (by decide) ?_
      refine j_istore_n (lv' := [(2, (gi (nI 0))), (0, (ga (some (ad 0)))), (1, (gi p1))]) C dX2_pass_31 (by decide) rfl ?_
      refine j_sub (lv' := [(0, (ga (some (ad 0)))), (1, (gi p1)), (2, (gi (nI 0)))]) (gL_cons rfl (gL_cons rfl (gL_cons rfl (gL_nil)))) ?_
      refine gL2_e (fun (x7 : Int32) (x8 : Int32) (w6 : TS) => gJ D dA A K p l e R s m args below meth c (gEnd D dA A K below args s (twOf wb ad w0) (some (gi rr)) (twOf wb ad ww)) 3 32 [(0, (ga (some (ad 0)))), (1, (gi x7)), (2, (gi x8))] [] (twOf wb ad w6)) ?_ _ _ _ _ hf
      intro k9 jk9 x7 x8 w6 hf
      refine j_iload_n C dX2_pass_32 rfl ?_
      refine j_iload_n C dX2_pass_33 rfl ?_
      refine j_icmp_ge (tgt := 47) C dX2_pass_34 (by decide) (fun c10 => ?_) (fun c10 => ?_)
      · replace hf := gIf_t hf c10
        refine j_aload_n C dX2_pass_47 rfl ?_
        refine j_get (v := (ga (some (ad 5)))) C fl_X2_22_2 dX2_pass_48 (tw_F hinj rfl) ?_
        refine j_iconst (v := (nI 0)) C dX2_pass_51 (by decide) ?_
        replace hf := gB1_e hf
        obtain ⟨x11, ex11, hf⟩ := hf
        refine j_iald C (tw_ld hinj ex11) dX2_pass_52 ?_
        obtain ⟨rfl, rfl⟩ := gSome hf
        exact j_iret C hr hw dX2_pass_53
      · replace hf := gIf_f hf c10
        refine j_aload_n C dX2_pass_37 rfl ?_
        replace hf := gB2_e hf
        obtain ⟨_, w12, ew12, hf⟩ := hf
        refine j_callV (As := []) (rest := []) (v := none) C (by omega) (kt_X2_passes hinj (by omega) ew12) (tw_cls hinj) rfl q1917 q1919 qs82 q93 q1920 ⟨rfl, hd_X2_passes⟩ (by decide) rfl (Nat.le_of_ble_eq_true rfl) dX2_pass_38 ?_
        replace hf := gBd_x hf
        obtain ⟨x13, ex13, hf⟩ := hf
        refine j_iinc (v := x13) (lv' := [(2, (gi x13)), (0, (ga (some (ad 0)))), (1, (gi x7))]) C dX2_pass_41 rfl (by rw [ex13]; rfl) (by decide) rfl ?_
        refine j_goto (tgt := 32) C dX2_pass_44 (by decide) ?_
        refine j_sub (lv' := [(0, (ga (some (ad 0)))), (1, (gi x7)), (2, (gi x13))]) (gL_cons rfl (gL_cons rfl (gL_cons rfl (gL_nil)))) ?_
        exact jk9 _ _ _ hf
    · replace hf := gIf_f hf c5
      refine j_bipush (v := (-4)) C dX2_pass_27 (by decide) ?_
      obtain ⟨rfl, rfl⟩ := gSome hf
      exact j_iret C hr hw dX2_pass_29
  · replace hf := gIf_t hf c3
    refine j_bipush (v := (-2)) C dX2_pass_11 (by decide) ?_
    obtain ⟨rfl, rfl⟩ := gSome hf
    exact j_iret C hr hw dX2_pass_13
