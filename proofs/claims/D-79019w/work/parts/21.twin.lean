set_option maxRecDepth 100000
def dkwX2_isFor_3 : List UInt8 := [21, 5, 7, 160, 0, 7, 4, 167, 0, 4, 3, 172]
abbrev dktX2_isFor_3 : List UInt8 := dkwX2_isFor_3 ++ []
def dkwX2_isFor_2 : List UInt8 := [167, 0, 15, 42, 180, 0, 22, 27, 21, 4, 3, 184, 0, 169, 46, 54, 5, 21, 5, 6, 159, 0, 9]
abbrev dktX2_isFor_2 : List UInt8 := dkwX2_isFor_2 ++ dktX2_isFor_3
def dkwX2_isFor_1 : List UInt8 := [159, 0, 17, 42, 27, 21, 4, 16, 8, 182, 0, 171, 54, 4, 167, 255, 227, 21, 4, 156, 0, 7, 5]
abbrev dktX2_isFor_1 : List UInt8 := dkwX2_isFor_1 ++ dktX2_isFor_2
def dkwX2_isFor_0 : List UInt8 := [29, 154, 0, 5, 4, 172, 28, 54, 4, 21, 4, 155, 0, 30, 42, 27, 21, 4, 16, 8, 182, 0, 171, 29]
abbrev dktX2_isFor_0 : List UInt8 := dkwX2_isFor_0 ++ dktX2_isFor_1
theorem dksX2_isFor_0 : cX2_isFor.data.toList.drop 0 = dktX2_isFor_0 := by decide +kernel
theorem dksX2_isFor_1 : cX2_isFor.data.toList.drop 24 = dktX2_isFor_1 := dk_seg dksX2_isFor_0 24 rfl rfl
theorem dksX2_isFor_2 : cX2_isFor.data.toList.drop 47 = dktX2_isFor_2 := dk_seg dksX2_isFor_1 23 rfl rfl
theorem dksX2_isFor_3 : cX2_isFor.data.toList.drop 70 = dktX2_isFor_3 := dk_seg dksX2_isFor_2 23 rfl rfl
theorem dX2_isFor_0 : decode cX2_isFor 0 = .ok (.iload_n 3, 1) := dk_29 (dk_at dksX2_isFor_0 0 rfl rfl)
theorem dX2_isFor_1 : decode cX2_isFor 1 = .ok (.ifCond .ne 5, 3) := dk_154 0 5 (dk_at dksX2_isFor_0 1 rfl rfl)
theorem dX2_isFor_4 : decode cX2_isFor 4 = .ok (.iconst 1, 1) := dk_4 (dk_at dksX2_isFor_0 4 rfl rfl)
theorem dX2_isFor_5 : decode cX2_isFor 5 = .ok (.ireturn, 1) := dk_172 (dk_at dksX2_isFor_0 5 rfl rfl)
theorem dX2_isFor_6 : decode cX2_isFor 6 = .ok (.iload_n 2, 1) := dk_28 (dk_at dksX2_isFor_0 6 rfl rfl)
theorem dX2_isFor_7 : decode cX2_isFor 7 = .ok (.istore 4, 2) := dk_54 4 (dk_at dksX2_isFor_0 7 rfl rfl)
theorem dX2_isFor_9 : decode cX2_isFor 9 = .ok (.iload 4, 2) := dk_21 4 (dk_at dksX2_isFor_0 9 rfl rfl)
theorem dX2_isFor_11 : decode cX2_isFor 11 = .ok (.ifCond .lt 30, 3) := dk_155 0 30 (dk_at dksX2_isFor_0 11 rfl rfl)
theorem dX2_isFor_14 : decode cX2_isFor 14 = .ok (.aload_n 0, 1) := dk_42 (dk_at dksX2_isFor_0 14 rfl rfl)
theorem dX2_isFor_15 : decode cX2_isFor 15 = .ok (.iload_n 1, 1) := dk_27 (dk_at dksX2_isFor_0 15 rfl rfl)
theorem dX2_isFor_16 : decode cX2_isFor 16 = .ok (.iload 4, 2) := dk_21 4 (dk_at dksX2_isFor_0 16 rfl rfl)
theorem dX2_isFor_18 : decode cX2_isFor 18 = .ok (.bipush 8, 2) := dk_16 8 (dk_at dksX2_isFor_0 18 rfl rfl)
theorem dX2_isFor_20 : decode cX2_isFor 20 = .ok (.invokevirtual 171, 3) := dk_182 0 171 (dk_at dksX2_isFor_0 20 rfl rfl)
theorem dX2_isFor_23 : decode cX2_isFor 23 = .ok (.iload_n 3, 1) := dk_29 (dk_at dksX2_isFor_0 23 rfl rfl)
theorem dX2_isFor_24 : decode cX2_isFor 24 = .ok (.if_icmp .eq 17, 3) := dk_159 0 17 (dk_at dksX2_isFor_1 0 rfl rfl)
theorem dX2_isFor_27 : decode cX2_isFor 27 = .ok (.aload_n 0, 1) := dk_42 (dk_at dksX2_isFor_1 3 rfl rfl)
theorem dX2_isFor_28 : decode cX2_isFor 28 = .ok (.iload_n 1, 1) := dk_27 (dk_at dksX2_isFor_1 4 rfl rfl)
theorem dX2_isFor_29 : decode cX2_isFor 29 = .ok (.iload 4, 2) := dk_21 4 (dk_at dksX2_isFor_1 5 rfl rfl)
theorem dX2_isFor_31 : decode cX2_isFor 31 = .ok (.bipush 8, 2) := dk_16 8 (dk_at dksX2_isFor_1 7 rfl rfl)
theorem dX2_isFor_33 : decode cX2_isFor 33 = .ok (.invokevirtual 171, 3) := dk_182 0 171 (dk_at dksX2_isFor_1 9 rfl rfl)
theorem dX2_isFor_36 : decode cX2_isFor 36 = .ok (.istore 4, 2) := dk_54 4 (dk_at dksX2_isFor_1 12 rfl rfl)
theorem dX2_isFor_38 : decode cX2_isFor 38 = .ok (.goto (-29), 3) := dk_167 255 227 (dk_at dksX2_isFor_1 14 rfl rfl)
theorem dX2_isFor_41 : decode cX2_isFor 41 = .ok (.iload 4, 2) := dk_21 4 (dk_at dksX2_isFor_1 17 rfl rfl)
theorem dX2_isFor_43 : decode cX2_isFor 43 = .ok (.ifCond .ge 7, 3) := dk_156 0 7 (dk_at dksX2_isFor_1 19 rfl rfl)
theorem dX2_isFor_46 : decode cX2_isFor 46 = .ok (.iconst 2, 1) := dk_5 (dk_at dksX2_isFor_1 22 rfl rfl)
theorem dX2_isFor_47 : decode cX2_isFor 47 = .ok (.goto 15, 3) := dk_167 0 15 (dk_at dksX2_isFor_2 0 rfl rfl)
theorem dX2_isFor_50 : decode cX2_isFor 50 = .ok (.aload_n 0, 1) := dk_42 (dk_at dksX2_isFor_2 3 rfl rfl)
theorem dX2_isFor_51 : decode cX2_isFor 51 = .ok (.getfield 22, 3) := dk_180 0 22 (dk_at dksX2_isFor_2 4 rfl rfl)
theorem dX2_isFor_54 : decode cX2_isFor 54 = .ok (.iload_n 1, 1) := dk_27 (dk_at dksX2_isFor_2 7 rfl rfl)
theorem dX2_isFor_55 : decode cX2_isFor 55 = .ok (.iload 4, 2) := dk_21 4 (dk_at dksX2_isFor_2 8 rfl rfl)
theorem dX2_isFor_57 : decode cX2_isFor 57 = .ok (.iconst 0, 1) := dk_3 (dk_at dksX2_isFor_2 10 rfl rfl)
theorem dX2_isFor_58 : decode cX2_isFor 58 = .ok (.invokestatic 169, 3) := dk_184 0 169 (dk_at dksX2_isFor_2 11 rfl rfl)
theorem dX2_isFor_61 : decode cX2_isFor 61 = .ok (.iaload, 1) := dk_46 (dk_at dksX2_isFor_2 14 rfl rfl)
theorem dX2_isFor_62 : decode cX2_isFor 62 = .ok (.istore 5, 2) := dk_54 5 (dk_at dksX2_isFor_2 15 rfl rfl)
theorem dX2_isFor_64 : decode cX2_isFor 64 = .ok (.iload 5, 2) := dk_21 5 (dk_at dksX2_isFor_2 17 rfl rfl)
theorem dX2_isFor_66 : decode cX2_isFor 66 = .ok (.iconst 3, 1) := dk_6 (dk_at dksX2_isFor_2 19 rfl rfl)
theorem dX2_isFor_67 : decode cX2_isFor 67 = .ok (.if_icmp .eq 9, 3) := dk_159 0 9 (dk_at dksX2_isFor_2 20 rfl rfl)
theorem dX2_isFor_70 : decode cX2_isFor 70 = .ok (.iload 5, 2) := dk_21 5 (dk_at dksX2_isFor_3 0 rfl rfl)
theorem dX2_isFor_72 : decode cX2_isFor 72 = .ok (.iconst 4, 1) := dk_7 (dk_at dksX2_isFor_3 2 rfl rfl)
theorem dX2_isFor_73 : decode cX2_isFor 73 = .ok (.if_icmp .ne 7, 3) := dk_160 0 7 (dk_at dksX2_isFor_3 3 rfl rfl)
theorem dX2_isFor_76 : decode cX2_isFor 76 = .ok (.iconst 1, 1) := dk_4 (dk_at dksX2_isFor_3 6 rfl rfl)
theorem dX2_isFor_77 : decode cX2_isFor 77 = .ok (.goto 4, 3) := dk_167 0 4 (dk_at dksX2_isFor_3 7 rfl rfl)
theorem dX2_isFor_80 : decode cX2_isFor 80 = .ok (.iconst 0, 1) := dk_3 (dk_at dksX2_isFor_3 10 rfl rfl)
theorem dX2_isFor_81 : decode cX2_isFor 81 = .ok (.ireturn, 1) := dk_172 (dk_at dksX2_isFor_3 11 rfl rfl)
def t_X2_isFor (p1 : Int32) (p2 : Int32) (p3 : Int32) (w0 : TS) : Option (Int32 × TS) := if p3 = 0 then some ((nI 1), w0) else gL3 (fun k6 (x3 : Int32) (x4 : Int32) (x5 : Int32) (w2 : TS) => gBd (fun (x9 : Int32) (x10 : Int32) (w8 : TS) => gBd (fun (x13 : Int32) (w12 : TS) => gBd (fun (w15 : TS) => some ((nI 1), w15)) fun k14 => if x13 = (nI 3) then k14 w12 else if x13 = (nI 4) then k14 w12 else some ((nI 0), w12)) fun k11 => if 0 ≤ x10 then gB2 (t_X2_at x9 x10 (nI 0) w8) fun x20 w19 => gB1 (tLd w19 5 x20) fun x21 => k11 x21 w19 else k11 (nI 2) w8) fun k7 => if x5 < 0 then k7 x3 x5 w2 else gB2 (t_X2_nodePart x3 x5 (nI 8) w2) fun x24 w23 => if x24 = x4 then k7 x3 x5 w23 else gB2 (t_X2_nodePart x3 x5 (nI 8) w23) fun x27 w26 => k6 x3 x4 x27 w26) 20000 p1 p3 p2 w0
set_option maxHeartbeats 4000000 in
set_option maxRecDepth 100000 in
theorem kt_X2_isFor {D : va_G} {dA : Nat → ClassId} {A : Nat → Prop} {K : Nat → Nat} {l : Launch} {wb : gw} {ad : Nat → Nat} (hinj : tInj ad) {h : Nat} (hh : 3 ≤ h) {p1 : Int32} {p2 : Int32} {p3 : Int32} {w0 ww : TS} {rr : Int32} (hf : t_X2_isFor p1 p2 p3 w0 = some (rr, ww)) : gMet D dA A K l yX2_isFor (ws_ yX2_isFor cX2_isFor 6 (some .boolean)) h [(ga (some (ad 0))), (gi p1), (gi p2), (gi p3)] (some (gi rr)) (twOf wb ad w0) (twOf wb ad ww) := by
  refine j_start (own := RX2) (by decide +kernel) rfl (Nat.le_of_ble_eq_true rfl) ?_
  intro p e R s m args below meth c C hr hin hw
  unfold t_X2_isFor at hf
  show gJ D dA A K p l e R s m args below meth c (gEnd D dA A K below args s (twOf wb ad w0) (some (gi rr)) (twOf wb ad ww)) 6 0 [(0, (ga (some (ad 0)))), (1, (gi p1)), (2, (gi p2)), (3, (gi p3))] [] (twOf wb ad w0)
  refine j_iload_n C dX2_isFor_0 rfl ?_
  refine j_if_ne (tgt := 6) C dX2_isFor_1 (by decide) (fun c1 => ?_) (fun c1 => ?_)
  · replace hf := gIf_f hf c1
    refine j_iload_n C dX2_isFor_6 rfl ?_
    refine j_istore (lv' := [(4, (gi p2)), (0, (ga (some (ad 0)))), (1, (gi p1)), (2, (gi p2)), (3, (gi p3))]) C dX2_isFor_7 (by decide) rfl ?_
    refine j_sub (lv' := [(0, (ga (some (ad 0)))), (1, (gi p1)), (3, (gi p3)), (4, (gi p2))]) (gL_cons rfl (gL_cons rfl (gL_cons rfl (gL_cons rfl (gL_nil))))) ?_
    refine gL3_e (fun (x3 : Int32) (x4 : Int32) (x5 : Int32) (w2 : TS) => gJ D dA A K p l e R s m args below meth c (gEnd D dA A K below args s (twOf wb ad w0) (some (gi rr)) (twOf wb ad ww)) 6 9 [(0, (ga (some (ad 0)))), (1, (gi x3)), (3, (gi x4)), (4, (gi x5))] [] (twOf wb ad w2)) ?_ _ _ _ _ _ hf
    intro k6 jk6 x3 x4 x5 w2 hf
    refine j_iload C dX2_isFor_9 rfl ?_
    replace hf := gBd_x hf
    obtain ⟨k7, ek7, hf⟩ := hf
    have jk7 : ∀ (x9 : Int32) (x10 : Int32) (w8 : TS), k7 x9 x10 w8 = some (rr, ww) → gJ D dA A K p l e R s m args below meth c (gEnd D dA A K below args s (twOf wb ad w0) (some (gi rr)) (twOf wb ad ww)) 6 41 [(0, (ga (some (ad 0)))), (1, (gi x9)), (4, (gi x10))] [] (twOf wb ad w8) := by
      intro x9 x10 w8 hf
      rw [ek7] at hf
      dsimp only at hf
      refine j_iload C dX2_isFor_41 rfl ?_
      replace hf := gBd_x hf
      obtain ⟨k11, ek11, hf⟩ := hf
      have jk11 : ∀ (x13 : Int32) (w12 : TS), k11 x13 w12 = some (rr, ww) → gJ D dA A K p l e R s m args below meth c (gEnd D dA A K below args s (twOf wb ad w0) (some (gi rr)) (twOf wb ad ww)) 6 62 [] [(gi x13)] (twOf wb ad w12) := by
        intro x13 w12 hf
        rw [ek11] at hf
        dsimp only at hf
        refine j_istore (lv' := [(5, (gi x13))]) C dX2_isFor_62 (by decide) rfl ?_
        refine j_iload C dX2_isFor_64 rfl ?_
        refine j_iconst (v := (nI 3)) C dX2_isFor_66 (by decide) ?_
        replace hf := gBd_x hf
        obtain ⟨k14, ek14, hf⟩ := hf
        have jk14 : ∀ (w15 : TS), k14 w15 = some (rr, ww) → gJ D dA A K p l e R s m args below meth c (gEnd D dA A K below args s (twOf wb ad w0) (some (gi rr)) (twOf wb ad ww)) 6 76 [] [] (twOf wb ad w15) := by
          intro w15 hf
          rw [ek14] at hf
          dsimp only at hf
          refine j_iconst (v := (nI 1)) C dX2_isFor_76 (by decide) ?_
          refine j_goto (tgt := 81) C dX2_isFor_77 (by decide) ?_
          obtain ⟨rfl, rfl⟩ := gSome hf
          exact j_zret C hr (by decide) hw dX2_isFor_81
        clear ek14
        refine j_icmp_eq (tgt := 76) C dX2_isFor_67 (by decide) (fun c16 => ?_) (fun c16 => ?_)
        · replace hf := gIf_t hf c16
          refine j_sub (lv' := []) (gL_nil) ?_
          exact jk14 _ hf
        · replace hf := gIf_f hf c16
          refine j_iload C dX2_isFor_70 rfl ?_
          refine j_iconst (v := (nI 4)) C dX2_isFor_72 (by decide) ?_
          refine j_icmp_ne (tgt := 80) C dX2_isFor_73 (by decide) (fun c17 => ?_) (fun c17 => ?_)
          · replace hf := gIf_f hf c17
            refine j_iconst (v := (nI 0)) C dX2_isFor_80 (by decide) ?_
            obtain ⟨rfl, rfl⟩ := gSome hf
            exact j_zret C hr (by decide) hw dX2_isFor_81
          · replace hf := gIf_t hf c17
            refine j_sub (lv' := []) (gL_nil) ?_
            exact jk14 _ hf
      clear ek11
      refine j_if_ge (tgt := 50) C dX2_isFor_43 (by decide) (fun c18 => ?_) (fun c18 => ?_)
      · replace hf := gIf_t hf c18
        refine j_aload_n C dX2_isFor_50 rfl ?_
        refine j_get (v := (ga (some (ad 5)))) C fl_X2_22_2 dX2_isFor_51 (tw_F hinj rfl) ?_
        refine j_iload_n C dX2_isFor_54 rfl ?_
        refine j_iload C dX2_isFor_55 rfl ?_
        refine j_iconst (v := (nI 0)) C dX2_isFor_57 (by decide) ?_
        replace hf := gB2_e hf
        obtain ⟨x20, w19, ew19, hf⟩ := hf
        refine j_callS (As := [(gi x9), (gi x10), (gi (nI 0))]) (rest := [(ga (some (ad 5)))]) (v := (some (gi x20))) C (by omega) (kt_X2_at hinj (by omega) ew19) q1801 q1802 q93 q1803 hd_X2_at (by decide) rfl (Nat.le_of_ble_eq_true rfl) dX2_isFor_58 ?_
        replace hf := gB1_e hf
        obtain ⟨x21, ex21, hf⟩ := hf
        refine j_iald C (tw_ld hinj ex21) dX2_isFor_61 ?_
        refine j_sub (lv' := []) (gL_nil) ?_
        exact jk11 _ _ hf
      · replace hf := gIf_f hf c18
        refine j_iconst (v := (nI 2)) C dX2_isFor_46 (by decide) ?_
        refine j_goto (tgt := 62) C dX2_isFor_47 (by decide) ?_
        refine j_sub (lv' := []) (gL_nil) ?_
        exact jk11 _ _ hf
    clear ek7
    refine j_if_lt (tgt := 41) C dX2_isFor_11 (by decide) (fun c22 => ?_) (fun c22 => ?_)
    · replace hf := gIf_t hf c22
      refine j_sub (lv' := [(0, (ga (some (ad 0)))), (1, (gi x3)), (4, (gi x5))]) (gL_cons rfl (gL_cons rfl (gL_cons rfl (gL_nil)))) ?_
      exact jk7 _ _ _ hf
    · replace hf := gIf_f hf c22
      refine j_aload_n C dX2_isFor_14 rfl ?_
      refine j_iload_n C dX2_isFor_15 rfl ?_
      refine j_iload C dX2_isFor_16 rfl ?_
      refine j_bipush (v := (nI 8)) C dX2_isFor_18 (by decide) ?_
      replace hf := gB2_e hf
      obtain ⟨x24, w23, ew23, hf⟩ := hf
      refine j_callV (As := [(gi x3), (gi x5), (gi (nI 8))]) (rest := []) (v := (some (gi x24))) C (by omega) (kt_X2_nodePart hinj (by omega) ew23) (tw_cls hinj) rfl q1812 q1814 qs60 q93 q1815 ⟨rfl, hd_X2_nodePart⟩ (by decide) rfl (Nat.le_of_ble_eq_true rfl) dX2_isFor_20 ?_
      refine j_iload_n C dX2_isFor_23 rfl ?_
      refine j_icmp_eq (tgt := 41) C dX2_isFor_24 (by decide) (fun c25 => ?_) (fun c25 => ?_)
      · replace hf := gIf_t hf c25
        refine j_sub (lv' := [(0, (ga (some (ad 0)))), (1, (gi x3)), (4, (gi x5))]) (gL_cons rfl (gL_cons rfl (gL_cons rfl (gL_nil)))) ?_
        exact jk7 _ _ _ hf
      · replace hf := gIf_f hf c25
        refine j_aload_n C dX2_isFor_27 rfl ?_
        refine j_iload_n C dX2_isFor_28 rfl ?_
        refine j_iload C dX2_isFor_29 rfl ?_
        refine j_bipush (v := (nI 8)) C dX2_isFor_31 (by decide) ?_
        replace hf := gB2_e hf
        obtain ⟨x27, w26, ew26, hf⟩ := hf
        refine j_callV (As := [(gi x3), (gi x5), (gi (nI 8))]) (rest := []) (v := (some (gi x27))) C (by omega) (kt_X2_nodePart hinj (by omega) ew26) (tw_cls hinj) rfl q1812 q1814 qs60 q93 q1815 ⟨rfl, hd_X2_nodePart⟩ (by decide) rfl (Nat.le_of_ble_eq_true rfl) dX2_isFor_33 ?_
        refine j_istore (lv' := [(4, (gi x27)), (0, (ga (some (ad 0)))), (1, (gi x3)), (3, (gi x4))]) C dX2_isFor_36 (by decide) rfl ?_
        refine j_goto (tgt := 9) C dX2_isFor_38 (by decide) ?_
        refine j_sub (lv' := [(0, (ga (some (ad 0)))), (1, (gi x3)), (3, (gi x4)), (4, (gi x27))]) (gL_cons rfl (gL_cons rfl (gL_cons rfl (gL_cons rfl (gL_nil))))) ?_
        exact jk6 _ _ _ _ hf
  · replace hf := gIf_t hf c1
    refine j_iconst (v := (nI 1)) C dX2_isFor_4 (by decide) ?_
    obtain ⟨rfl, rfl⟩ := gSome hf
    exact j_zret C hr (by decide) hw dX2_isFor_5
def dkwX2_triesToCompensate_2 : List UInt8 := [4, 29, 96, 46, 96, 79, 177]
abbrev dktX2_triesToCompensate_2 : List UInt8 := dkwX2_triesToCompensate_2 ++ []
def dkwX2_triesToCompensate_1 : List UInt8 := [182, 0, 174, 42, 180, 0, 22, 27, 28, 16, 9, 184, 0, 169, 42, 180, 0, 22, 3, 46, 42, 180, 0, 22]
abbrev dktX2_triesToCompensate_1 : List UInt8 := dkwX2_triesToCompensate_1 ++ dktX2_triesToCompensate_2
def dkwX2_triesToCompensate_0 : List UInt8 := [42, 27, 42, 180, 0, 22, 27, 28, 16, 7, 184, 0, 169, 46, 7, 182, 0, 171, 62, 42, 27, 8, 29]
abbrev dktX2_triesToCompensate_0 : List UInt8 := dkwX2_triesToCompensate_0 ++ dktX2_triesToCompensate_1
theorem dksX2_triesToCompensate_0 : cX2_triesToCompensate.data.toList.drop 0 = dktX2_triesToCompensate_0 := by decide +kernel
theorem dksX2_triesToCompensate_1 : cX2_triesToCompensate.data.toList.drop 23 = dktX2_triesToCompensate_1 := dk_seg dksX2_triesToCompensate_0 23 rfl rfl
theorem dksX2_triesToCompensate_2 : cX2_triesToCompensate.data.toList.drop 47 = dktX2_triesToCompensate_2 := dk_seg dksX2_triesToCompensate_1 24 rfl rfl
theorem dX2_triesToCompensate_0 : decode cX2_triesToCompensate 0 = .ok (.aload_n 0, 1) := dk_42 (dk_at dksX2_triesToCompensate_0 0 rfl rfl)
theorem dX2_triesToCompensate_1 : decode cX2_triesToCompensate 1 = .ok (.iload_n 1, 1) := dk_27 (dk_at dksX2_triesToCompensate_0 1 rfl rfl)
theorem dX2_triesToCompensate_2 : decode cX2_triesToCompensate 2 = .ok (.aload_n 0, 1) := dk_42 (dk_at dksX2_triesToCompensate_0 2 rfl rfl)
theorem dX2_triesToCompensate_3 : decode cX2_triesToCompensate 3 = .ok (.getfield 22, 3) := dk_180 0 22 (dk_at dksX2_triesToCompensate_0 3 rfl rfl)
theorem dX2_triesToCompensate_6 : decode cX2_triesToCompensate 6 = .ok (.iload_n 1, 1) := dk_27 (dk_at dksX2_triesToCompensate_0 6 rfl rfl)
theorem dX2_triesToCompensate_7 : decode cX2_triesToCompensate 7 = .ok (.iload_n 2, 1) := dk_28 (dk_at dksX2_triesToCompensate_0 7 rfl rfl)
theorem dX2_triesToCompensate_8 : decode cX2_triesToCompensate 8 = .ok (.bipush 7, 2) := dk_16 7 (dk_at dksX2_triesToCompensate_0 8 rfl rfl)
theorem dX2_triesToCompensate_10 : decode cX2_triesToCompensate 10 = .ok (.invokestatic 169, 3) := dk_184 0 169 (dk_at dksX2_triesToCompensate_0 10 rfl rfl)
theorem dX2_triesToCompensate_13 : decode cX2_triesToCompensate 13 = .ok (.iaload, 1) := dk_46 (dk_at dksX2_triesToCompensate_0 13 rfl rfl)
theorem dX2_triesToCompensate_14 : decode cX2_triesToCompensate 14 = .ok (.iconst 4, 1) := dk_7 (dk_at dksX2_triesToCompensate_0 14 rfl rfl)
theorem dX2_triesToCompensate_15 : decode cX2_triesToCompensate 15 = .ok (.invokevirtual 171, 3) := dk_182 0 171 (dk_at dksX2_triesToCompensate_0 15 rfl rfl)
theorem dX2_triesToCompensate_18 : decode cX2_triesToCompensate 18 = .ok (.istore_n 3, 1) := dk_62 (dk_at dksX2_triesToCompensate_0 18 rfl rfl)
theorem dX2_triesToCompensate_19 : decode cX2_triesToCompensate 19 = .ok (.aload_n 0, 1) := dk_42 (dk_at dksX2_triesToCompensate_0 19 rfl rfl)
theorem dX2_triesToCompensate_20 : decode cX2_triesToCompensate 20 = .ok (.iload_n 1, 1) := dk_27 (dk_at dksX2_triesToCompensate_0 20 rfl rfl)
theorem dX2_triesToCompensate_21 : decode cX2_triesToCompensate 21 = .ok (.iconst 5, 1) := dk_8 (dk_at dksX2_triesToCompensate_0 21 rfl rfl)
theorem dX2_triesToCompensate_22 : decode cX2_triesToCompensate 22 = .ok (.iload_n 3, 1) := dk_29 (dk_at dksX2_triesToCompensate_0 22 rfl rfl)
theorem dX2_triesToCompensate_23 : decode cX2_triesToCompensate 23 = .ok (.invokevirtual 174, 3) := dk_182 0 174 (dk_at dksX2_triesToCompensate_1 0 rfl rfl)
theorem dX2_triesToCompensate_26 : decode cX2_triesToCompensate 26 = .ok (.aload_n 0, 1) := dk_42 (dk_at dksX2_triesToCompensate_1 3 rfl rfl)
theorem dX2_triesToCompensate_27 : decode cX2_triesToCompensate 27 = .ok (.getfield 22, 3) := dk_180 0 22 (dk_at dksX2_triesToCompensate_1 4 rfl rfl)
theorem dX2_triesToCompensate_30 : decode cX2_triesToCompensate 30 = .ok (.iload_n 1, 1) := dk_27 (dk_at dksX2_triesToCompensate_1 7 rfl rfl)
theorem dX2_triesToCompensate_31 : decode cX2_triesToCompensate 31 = .ok (.iload_n 2, 1) := dk_28 (dk_at dksX2_triesToCompensate_1 8 rfl rfl)
theorem dX2_triesToCompensate_32 : decode cX2_triesToCompensate 32 = .ok (.bipush 9, 2) := dk_16 9 (dk_at dksX2_triesToCompensate_1 9 rfl rfl)
theorem dX2_triesToCompensate_34 : decode cX2_triesToCompensate 34 = .ok (.invokestatic 169, 3) := dk_184 0 169 (dk_at dksX2_triesToCompensate_1 11 rfl rfl)
theorem dX2_triesToCompensate_37 : decode cX2_triesToCompensate 37 = .ok (.aload_n 0, 1) := dk_42 (dk_at dksX2_triesToCompensate_1 14 rfl rfl)
theorem dX2_triesToCompensate_38 : decode cX2_triesToCompensate 38 = .ok (.getfield 22, 3) := dk_180 0 22 (dk_at dksX2_triesToCompensate_1 15 rfl rfl)
theorem dX2_triesToCompensate_41 : decode cX2_triesToCompensate 41 = .ok (.iconst 0, 1) := dk_3 (dk_at dksX2_triesToCompensate_1 18 rfl rfl)
theorem dX2_triesToCompensate_42 : decode cX2_triesToCompensate 42 = .ok (.iaload, 1) := dk_46 (dk_at dksX2_triesToCompensate_1 19 rfl rfl)
theorem dX2_triesToCompensate_43 : decode cX2_triesToCompensate 43 = .ok (.aload_n 0, 1) := dk_42 (dk_at dksX2_triesToCompensate_1 20 rfl rfl)
theorem dX2_triesToCompensate_44 : decode cX2_triesToCompensate 44 = .ok (.getfield 22, 3) := dk_180 0 22 (dk_at dksX2_triesToCompensate_1 21 rfl rfl)
theorem dX2_triesToCompensate_47 : decode cX2_triesToCompensate 47 = .ok (.iconst 1, 1) := dk_4 (dk_at dksX2_triesToCompensate_2 0 rfl rfl)
theorem dX2_triesToCompensate_48 : decode cX2_triesToCompensate 48 = .ok (.iload_n 3, 1) := dk_29 (dk_at dksX2_triesToCompensate_2 1 rfl rfl)
theorem dX2_triesToCompensate_49 : decode cX2_triesToCompensate 49 = .ok (.iadd, 1) := dk_96 (dk_at dksX2_triesToCompensate_2 2 rfl rfl)
theorem dX2_triesToCompensate_50 : decode cX2_triesToCompensate 50 = .ok (.iaload, 1) := dk_46 (dk_at dksX2_triesToCompensate_2 3 rfl rfl)
theorem dX2_triesToCompensate_51 : decode cX2_triesToCompensate 51 = .ok (.iadd, 1) := dk_96 (dk_at dksX2_triesToCompensate_2 4 rfl rfl)
theorem dX2_triesToCompensate_52 : decode cX2_triesToCompensate 52 = .ok (.iastore, 1) := dk_79 (dk_at dksX2_triesToCompensate_2 5 rfl rfl)
theorem dX2_triesToCompensate_53 : decode cX2_triesToCompensate 53 = .ok (.return_, 1) := dk_177 (dk_at dksX2_triesToCompensate_2 6 rfl rfl)
def t_X2_triesToCompensate (p1 : Int32) (p2 : Int32) (w0 : TS) : Option (Unit × TS) := gB2 (t_X2_at p1 p2 (nI 7) w0) fun x2 w1 => gB1 (tLd w1 5 x2) fun x3 => gB2 (t_X2_nodePart p1 x3 (nI 4) w1) fun x5 w4 => gB2 (t_X2_notes p1 (nI 5) x5 w4) fun _ w6 => gB2 (t_X2_at p1 p2 (nI 9) w6) fun x8 w7 => gB1 (tLd w7 5 (nI 0)) fun x9 => gB1 (tLd w7 5 ((nI 1) + x5)) fun x10 => gB1 (tSt w7 5 x8 (x9 + x10)) fun w11 => some ((), w11)
set_option maxHeartbeats 4000000 in
set_option maxRecDepth 100000 in
theorem kt_X2_triesToCompensate {D : va_G} {dA : Nat → ClassId} {A : Nat → Prop} {K : Nat → Nat} {l : Launch} {wb : gw} {ad : Nat → Nat} (hinj : tInj ad) {h : Nat} (hh : 3 ≤ h) {p1 : Int32} {p2 : Int32} {w0 ww : TS} {rr : Unit} (hf : t_X2_triesToCompensate p1 p2 w0 = some (rr, ww)) : gMet D dA A K l yX2_triesToCompensate (ws_ yX2_triesToCompensate cX2_triesToCompensate 4 none) h [(ga (some (ad 0))), (gi p1), (gi p2)] none (twOf wb ad w0) (twOf wb ad ww) := by
  refine j_start (own := RX2) (by decide +kernel) rfl (Nat.le_of_ble_eq_true rfl) ?_
  intro p e R s m args below meth c C hr hin hw
  unfold t_X2_triesToCompensate at hf
  show gJ D dA A K p l e R s m args below meth c (gEnd D dA A K below args s (twOf wb ad w0) none (twOf wb ad ww)) 4 0 [(0, (ga (some (ad 0)))), (1, (gi p1)), (2, (gi p2))] [] (twOf wb ad w0)
  refine j_aload_n C dX2_triesToCompensate_0 rfl ?_
  refine j_iload_n C dX2_triesToCompensate_1 rfl ?_
  refine j_aload_n C dX2_triesToCompensate_2 rfl ?_
  refine j_get (v := (ga (some (ad 5)))) C fl_X2_22_2 dX2_triesToCompensate_3 (tw_F hinj rfl) ?_
  refine j_iload_n C dX2_triesToCompensate_6 rfl ?_
  refine j_iload_n C dX2_triesToCompensate_7 rfl ?_
  refine j_bipush (v := (nI 7)) C dX2_triesToCompensate_8 (by decide) ?_
  replace hf := gB2_e hf
  obtain ⟨x2, w1, ew1, hf⟩ := hf
  refine j_callS (As := [(gi p1), (gi p2), (gi (nI 7))]) (rest := [(ga (some (ad 5))), (gi p1), (ga (some (ad 0)))]) (v := (some (gi x2))) C (by omega) (kt_X2_at hinj (by omega) ew1) q1801 q1802 q93 q1803 hd_X2_at (by decide) rfl (Nat.le_of_ble_eq_true rfl) dX2_triesToCompensate_10 ?_
  replace hf := gB1_e hf
  obtain ⟨x3, ex3, hf⟩ := hf
  refine j_iald C (tw_ld hinj ex3) dX2_triesToCompensate_13 ?_
  refine j_iconst (v := (nI 4)) C dX2_triesToCompensate_14 (by decide) ?_
  replace hf := gB2_e hf
  obtain ⟨x5, w4, ew4, hf⟩ := hf
  refine j_callV (As := [(gi p1), (gi x3), (gi (nI 4))]) (rest := []) (v := (some (gi x5))) C (by omega) (kt_X2_nodePart hinj (by omega) ew4) (tw_cls hinj) rfl q1812 q1814 qs60 q93 q1815 ⟨rfl, hd_X2_nodePart⟩ (by decide) rfl (Nat.le_of_ble_eq_true rfl) dX2_triesToCompensate_15 ?_
  refine j_istore_n (lv' := [(3, (gi x5)), (0, (ga (some (ad 0)))), (1, (gi p1)), (2, (gi p2))]) C dX2_triesToCompensate_18 (by decide) rfl ?_
  refine j_aload_n C dX2_triesToCompensate_19 rfl ?_
  refine j_iload_n C dX2_triesToCompensate_20 rfl ?_
  refine j_iconst (v := (nI 5)) C dX2_triesToCompensate_21 (by decide) ?_
  refine j_iload_n C dX2_triesToCompensate_22 rfl ?_
  replace hf := gB2_e hf
  obtain ⟨_, w6, ew6, hf⟩ := hf
  refine j_callV (As := [(gi p1), (gi (nI 5)), (gi x5)]) (rest := []) (v := none) C (by omega) (kt_X2_notes hinj (by omega) ew6) (tw_cls hinj) rfl q1828 q1830 qs64 q93 q1831 ⟨rfl, hd_X2_notes⟩ (by decide) rfl (Nat.le_of_ble_eq_true rfl) dX2_triesToCompensate_23 ?_
  refine j_aload_n C dX2_triesToCompensate_26 rfl ?_
  refine j_get (v := (ga (some (ad 5)))) C fl_X2_22_2 dX2_triesToCompensate_27 (tw_F hinj rfl) ?_
  refine j_iload_n C dX2_triesToCompensate_30 rfl ?_
  refine j_iload_n C dX2_triesToCompensate_31 rfl ?_
  refine j_bipush (v := (nI 9)) C dX2_triesToCompensate_32 (by decide) ?_
  replace hf := gB2_e hf
  obtain ⟨x8, w7, ew7, hf⟩ := hf
  refine j_callS (As := [(gi p1), (gi p2), (gi (nI 9))]) (rest := [(ga (some (ad 5)))]) (v := (some (gi x8))) C (by omega) (kt_X2_at hinj (by omega) ew7) q1801 q1802 q93 q1803 hd_X2_at (by decide) rfl (Nat.le_of_ble_eq_true rfl) dX2_triesToCompensate_34 ?_
  refine j_aload_n C dX2_triesToCompensate_37 rfl ?_
  refine j_get (v := (ga (some (ad 5)))) C fl_X2_22_2 dX2_triesToCompensate_38 (tw_F hinj rfl) ?_
  refine j_iconst (v := (nI 0)) C dX2_triesToCompensate_41 (by decide) ?_
  replace hf := gB1_e hf
  obtain ⟨x9, ex9, hf⟩ := hf
  refine j_iald C (tw_ld hinj ex9) dX2_triesToCompensate_42 ?_
  refine j_aload_n C dX2_triesToCompensate_43 rfl ?_
  refine j_get (v := (ga (some (ad 5)))) C fl_X2_22_2 dX2_triesToCompensate_44 (tw_F hinj rfl) ?_
  refine j_iconst (v := (nI 1)) C dX2_triesToCompensate_47 (by decide) ?_
  refine j_iload_n C dX2_triesToCompensate_48 rfl ?_
  refine j_iadd C dX2_triesToCompensate_49 ?_
  replace hf := gB1_e hf
  obtain ⟨x10, ex10, hf⟩ := hf
  refine j_iald C (tw_ld hinj ex10) dX2_triesToCompensate_50 ?_
  refine j_iadd C dX2_triesToCompensate_51 ?_
  replace hf := gB1_e hf
  obtain ⟨w11, ew11, hf⟩ := hf
  refine j_iast C (tw_st hinj ew11) dX2_triesToCompensate_52 ?_
  obtain ⟨rfl, rfl⟩ := gSome hf
  exact j_vret C hr hw dX2_triesToCompensate_53
def dkwX2_handles_3 : List UInt8 := [177]
abbrev dktX2_handles_3 : List UInt8 := dkwX2_handles_3 ++ []
def dkwX2_handles_2 : List UInt8 := [27, 21, 4, 184, 0, 163, 92, 46, 4, 96, 79, 42, 180, 0, 22, 27, 28, 16, 7, 184, 0, 169, 2, 79]
abbrev dktX2_handles_2 : List UInt8 := dkwX2_handles_2 ++ dktX2_handles_3
def dkwX2_handles_1 : List UInt8 := [182, 0, 171, 182, 0, 174, 42, 180, 0, 22, 27, 21, 5, 16, 6, 184, 0, 169, 29, 79, 42, 180, 0, 22]
abbrev dktX2_handles_1 : List UInt8 := dkwX2_handles_1 ++ dktX2_handles_2
def dkwX2_handles_0 : List UInt8 := [42, 180, 0, 22, 27, 28, 16, 7, 184, 0, 169, 46, 54, 5, 42, 27, 29, 42, 27, 21, 5, 4]
abbrev dktX2_handles_0 : List UInt8 := dkwX2_handles_0 ++ dktX2_handles_1
theorem dksX2_handles_0 : cX2_handles.data.toList.drop 0 = dktX2_handles_0 := by decide +kernel
theorem dksX2_handles_1 : cX2_handles.data.toList.drop 22 = dktX2_handles_1 := dk_seg dksX2_handles_0 22 rfl rfl
theorem dksX2_handles_2 : cX2_handles.data.toList.drop 46 = dktX2_handles_2 := dk_seg dksX2_handles_1 24 rfl rfl
theorem dksX2_handles_3 : cX2_handles.data.toList.drop 70 = dktX2_handles_3 := dk_seg dksX2_handles_2 24 rfl rfl
theorem dX2_handles_0 : decode cX2_handles 0 = .ok (.aload_n 0, 1) := dk_42 (dk_at dksX2_handles_0 0 rfl rfl)
theorem dX2_handles_1 : decode cX2_handles 1 = .ok (.getfield 22, 3) := dk_180 0 22 (dk_at dksX2_handles_0 1 rfl rfl)
theorem dX2_handles_4 : decode cX2_handles 4 = .ok (.iload_n 1, 1) := dk_27 (dk_at dksX2_handles_0 4 rfl rfl)
theorem dX2_handles_5 : decode cX2_handles 5 = .ok (.iload_n 2, 1) := dk_28 (dk_at dksX2_handles_0 5 rfl rfl)
theorem dX2_handles_6 : decode cX2_handles 6 = .ok (.bipush 7, 2) := dk_16 7 (dk_at dksX2_handles_0 6 rfl rfl)
theorem dX2_handles_8 : decode cX2_handles 8 = .ok (.invokestatic 169, 3) := dk_184 0 169 (dk_at dksX2_handles_0 8 rfl rfl)
theorem dX2_handles_11 : decode cX2_handles 11 = .ok (.iaload, 1) := dk_46 (dk_at dksX2_handles_0 11 rfl rfl)
theorem dX2_handles_12 : decode cX2_handles 12 = .ok (.istore 5, 2) := dk_54 5 (dk_at dksX2_handles_0 12 rfl rfl)
theorem dX2_handles_14 : decode cX2_handles 14 = .ok (.aload_n 0, 1) := dk_42 (dk_at dksX2_handles_0 14 rfl rfl)
theorem dX2_handles_15 : decode cX2_handles 15 = .ok (.iload_n 1, 1) := dk_27 (dk_at dksX2_handles_0 15 rfl rfl)
theorem dX2_handles_16 : decode cX2_handles 16 = .ok (.iload_n 3, 1) := dk_29 (dk_at dksX2_handles_0 16 rfl rfl)
theorem dX2_handles_17 : decode cX2_handles 17 = .ok (.aload_n 0, 1) := dk_42 (dk_at dksX2_handles_0 17 rfl rfl)
theorem dX2_handles_18 : decode cX2_handles 18 = .ok (.iload_n 1, 1) := dk_27 (dk_at dksX2_handles_0 18 rfl rfl)
theorem dX2_handles_19 : decode cX2_handles 19 = .ok (.iload 5, 2) := dk_21 5 (dk_at dksX2_handles_0 19 rfl rfl)
theorem dX2_handles_21 : decode cX2_handles 21 = .ok (.iconst 1, 1) := dk_4 (dk_at dksX2_handles_0 21 rfl rfl)
theorem dX2_handles_22 : decode cX2_handles 22 = .ok (.invokevirtual 171, 3) := dk_182 0 171 (dk_at dksX2_handles_1 0 rfl rfl)
theorem dX2_handles_25 : decode cX2_handles 25 = .ok (.invokevirtual 174, 3) := dk_182 0 174 (dk_at dksX2_handles_1 3 rfl rfl)
theorem dX2_handles_28 : decode cX2_handles 28 = .ok (.aload_n 0, 1) := dk_42 (dk_at dksX2_handles_1 6 rfl rfl)
theorem dX2_handles_29 : decode cX2_handles 29 = .ok (.getfield 22, 3) := dk_180 0 22 (dk_at dksX2_handles_1 7 rfl rfl)
theorem dX2_handles_32 : decode cX2_handles 32 = .ok (.iload_n 1, 1) := dk_27 (dk_at dksX2_handles_1 10 rfl rfl)
theorem dX2_handles_33 : decode cX2_handles 33 = .ok (.iload 5, 2) := dk_21 5 (dk_at dksX2_handles_1 11 rfl rfl)
theorem dX2_handles_35 : decode cX2_handles 35 = .ok (.bipush 6, 2) := dk_16 6 (dk_at dksX2_handles_1 13 rfl rfl)
theorem dX2_handles_37 : decode cX2_handles 37 = .ok (.invokestatic 169, 3) := dk_184 0 169 (dk_at dksX2_handles_1 15 rfl rfl)
theorem dX2_handles_40 : decode cX2_handles 40 = .ok (.iload_n 3, 1) := dk_29 (dk_at dksX2_handles_1 18 rfl rfl)
theorem dX2_handles_41 : decode cX2_handles 41 = .ok (.iastore, 1) := dk_79 (dk_at dksX2_handles_1 19 rfl rfl)
theorem dX2_handles_42 : decode cX2_handles 42 = .ok (.aload_n 0, 1) := dk_42 (dk_at dksX2_handles_1 20 rfl rfl)
theorem dX2_handles_43 : decode cX2_handles 43 = .ok (.getfield 22, 3) := dk_180 0 22 (dk_at dksX2_handles_1 21 rfl rfl)
theorem dX2_handles_46 : decode cX2_handles 46 = .ok (.iload_n 1, 1) := dk_27 (dk_at dksX2_handles_2 0 rfl rfl)
theorem dX2_handles_47 : decode cX2_handles 47 = .ok (.iload 4, 2) := dk_21 4 (dk_at dksX2_handles_2 1 rfl rfl)
theorem dX2_handles_49 : decode cX2_handles 49 = .ok (.invokestatic 163, 3) := dk_184 0 163 (dk_at dksX2_handles_2 3 rfl rfl)
theorem dX2_handles_52 : decode cX2_handles 52 = .ok (.dup2, 1) := dk_92 (dk_at dksX2_handles_2 6 rfl rfl)
theorem dX2_handles_53 : decode cX2_handles 53 = .ok (.iaload, 1) := dk_46 (dk_at dksX2_handles_2 7 rfl rfl)
theorem dX2_handles_54 : decode cX2_handles 54 = .ok (.iconst 1, 1) := dk_4 (dk_at dksX2_handles_2 8 rfl rfl)
theorem dX2_handles_55 : decode cX2_handles 55 = .ok (.iadd, 1) := dk_96 (dk_at dksX2_handles_2 9 rfl rfl)
theorem dX2_handles_56 : decode cX2_handles 56 = .ok (.iastore, 1) := dk_79 (dk_at dksX2_handles_2 10 rfl rfl)
theorem dX2_handles_57 : decode cX2_handles 57 = .ok (.aload_n 0, 1) := dk_42 (dk_at dksX2_handles_2 11 rfl rfl)
theorem dX2_handles_58 : decode cX2_handles 58 = .ok (.getfield 22, 3) := dk_180 0 22 (dk_at dksX2_handles_2 12 rfl rfl)
theorem dX2_handles_61 : decode cX2_handles 61 = .ok (.iload_n 1, 1) := dk_27 (dk_at dksX2_handles_2 15 rfl rfl)
theorem dX2_handles_62 : decode cX2_handles 62 = .ok (.iload_n 2, 1) := dk_28 (dk_at dksX2_handles_2 16 rfl rfl)
theorem dX2_handles_63 : decode cX2_handles 63 = .ok (.bipush 7, 2) := dk_16 7 (dk_at dksX2_handles_2 17 rfl rfl)
theorem dX2_handles_65 : decode cX2_handles 65 = .ok (.invokestatic 169, 3) := dk_184 0 169 (dk_at dksX2_handles_2 19 rfl rfl)
theorem dX2_handles_68 : decode cX2_handles 68 = .ok (.iconst (-1), 1) := dk_2 (dk_at dksX2_handles_2 22 rfl rfl)
theorem dX2_handles_69 : decode cX2_handles 69 = .ok (.iastore, 1) := dk_79 (dk_at dksX2_handles_2 23 rfl rfl)
theorem dX2_handles_70 : decode cX2_handles 70 = .ok (.return_, 1) := dk_177 (dk_at dksX2_handles_3 0 rfl rfl)
def t_X2_handles (p1 : Int32) (p2 : Int32) (p3 : Int32) (p4 : Int32) (w0 : TS) : Option (Unit × TS) := gB2 (t_X2_at p1 p2 (nI 7) w0) fun x2 w1 => gB1 (tLd w1 5 x2) fun x3 => gB2 (t_X2_nodePart p1 x3 (nI 1) w1) fun x5 w4 => gB2 (t_X2_notes p1 p3 x5 w4) fun _ w6 => gB2 (t_X2_at p1 x3 (nI 6) w6) fun x8 w7 => gB1 (tSt w7 5 x8 p3) fun w9 => gB2 (t_X2_of p1 p4 w9) fun x11 w10 => gB1 (tLd w10 5 x11) fun x12 => gB1 (tSt w10 5 x11 (x12 + (nI 1))) fun w13 => gB2 (t_X2_at p1 p2 (nI 7) w13) fun x15 w14 => gB1 (tSt w14 5 x15 (-1)) fun w16 => some ((), w16)
set_option maxHeartbeats 4000000 in
set_option maxRecDepth 100000 in
theorem kt_X2_handles {D : va_G} {dA : Nat → ClassId} {A : Nat → Prop} {K : Nat → Nat} {l : Launch} {wb : gw} {ad : Nat → Nat} (hinj : tInj ad) {h : Nat} (hh : 3 ≤ h) {p1 : Int32} {p2 : Int32} {p3 : Int32} {p4 : Int32} {w0 ww : TS} {rr : Unit} (hf : t_X2_handles p1 p2 p3 p4 w0 = some (rr, ww)) : gMet D dA A K l yX2_handles (ws_ yX2_handles cX2_handles 6 none) h [(ga (some (ad 0))), (gi p1), (gi p2), (gi p3), (gi p4)] none (twOf wb ad w0) (twOf wb ad ww) := by
  refine j_start (own := RX2) (by decide +kernel) rfl (Nat.le_of_ble_eq_true rfl) ?_
  intro p e R s m args below meth c C hr hin hw
  unfold t_X2_handles at hf
  show gJ D dA A K p l e R s m args below meth c (gEnd D dA A K below args s (twOf wb ad w0) none (twOf wb ad ww)) 6 0 [(0, (ga (some (ad 0)))), (1, (gi p1)), (2, (gi p2)), (3, (gi p3)), (4, (gi p4))] [] (twOf wb ad w0)
  refine j_aload_n C dX2_handles_0 rfl ?_
  refine j_get (v := (ga (some (ad 5)))) C fl_X2_22_2 dX2_handles_1 (tw_F hinj rfl) ?_
  refine j_iload_n C dX2_handles_4 rfl ?_
  refine j_iload_n C dX2_handles_5 rfl ?_
  refine j_bipush (v := (nI 7)) C dX2_handles_6 (by decide) ?_
  replace hf := gB2_e hf
  obtain ⟨x2, w1, ew1, hf⟩ := hf
  refine j_callS (As := [(gi p1), (gi p2), (gi (nI 7))]) (rest := [(ga (some (ad 5)))]) (v := (some (gi x2))) C (by omega) (kt_X2_at hinj (by omega) ew1) q1801 q1802 q93 q1803 hd_X2_at (by decide) rfl (Nat.le_of_ble_eq_true rfl) dX2_handles_8 ?_
  replace hf := gB1_e hf
  obtain ⟨x3, ex3, hf⟩ := hf
  refine j_iald C (tw_ld hinj ex3) dX2_handles_11 ?_
  refine j_istore (lv' := [(5, (gi x3)), (0, (ga (some (ad 0)))), (1, (gi p1)), (2, (gi p2)), (3, (gi p3)), (4, (gi p4))]) C dX2_handles_12 (by decide) rfl ?_
  refine j_aload_n C dX2_handles_14 rfl ?_
  refine j_iload_n C dX2_handles_15 rfl ?_
  refine j_iload_n C dX2_handles_16 rfl ?_
  refine j_aload_n C dX2_handles_17 rfl ?_
  refine j_iload_n C dX2_handles_18 rfl ?_
  refine j_iload C dX2_handles_19 rfl ?_
  refine j_iconst (v := (nI 1)) C dX2_handles_21 (by decide) ?_
  replace hf := gB2_e hf
  obtain ⟨x5, w4, ew4, hf⟩ := hf
  refine j_callV (As := [(gi p1), (gi x3), (gi (nI 1))]) (rest := [(gi p3), (gi p1), (ga (some (ad 0)))]) (v := (some (gi x5))) C (by omega) (kt_X2_nodePart hinj (by omega) ew4) (tw_cls hinj) rfl q1812 q1814 qs60 q93 q1815 ⟨rfl, hd_X2_nodePart⟩ (by decide) rfl (Nat.le_of_ble_eq_true rfl) dX2_handles_22 ?_
  replace hf := gB2_e hf
  obtain ⟨_, w6, ew6, hf⟩ := hf
  refine j_callV (As := [(gi p1), (gi p3), (gi x5)]) (rest := []) (v := none) C (by omega) (kt_X2_notes hinj (by omega) ew6) (tw_cls hinj) rfl q1828 q1830 qs64 q93 q1831 ⟨rfl, hd_X2_notes⟩ (by decide) rfl (Nat.le_of_ble_eq_true rfl) dX2_handles_25 ?_
  refine j_aload_n C dX2_handles_28 rfl ?_
  refine j_get (v := (ga (some (ad 5)))) C fl_X2_22_2 dX2_handles_29 (tw_F hinj rfl) ?_
  refine j_iload_n C dX2_handles_32 rfl ?_
  refine j_iload C dX2_handles_33 rfl ?_
  refine j_bipush (v := (nI 6)) C dX2_handles_35 (by decide) ?_
  replace hf := gB2_e hf
  obtain ⟨x8, w7, ew7, hf⟩ := hf
  refine j_callS (As := [(gi p1), (gi x3), (gi (nI 6))]) (rest := [(ga (some (ad 5)))]) (v := (some (gi x8))) C (by omega) (kt_X2_at hinj (by omega) ew7) q1801 q1802 q93 q1803 hd_X2_at (by decide) rfl (Nat.le_of_ble_eq_true rfl) dX2_handles_37 ?_
  refine j_iload_n C dX2_handles_40 rfl ?_
  replace hf := gB1_e hf
  obtain ⟨w9, ew9, hf⟩ := hf
  refine j_iast C (tw_st hinj ew9) dX2_handles_41 ?_
  refine j_aload_n C dX2_handles_42 rfl ?_
  refine j_get (v := (ga (some (ad 5)))) C fl_X2_22_2 dX2_handles_43 (tw_F hinj rfl) ?_
  refine j_iload_n C dX2_handles_46 rfl ?_
  refine j_iload C dX2_handles_47 rfl ?_
  replace hf := gB2_e hf
  obtain ⟨x11, w10, ew10, hf⟩ := hf
  refine j_callS (As := [(gi p1), (gi p4)]) (rest := [(ga (some (ad 5)))]) (v := (some (gi x11))) C (by omega) (kt_X2_of hinj (by omega) ew10) q1798 q1799 q93 q1800 hd_X2_of (by decide) rfl (Nat.le_of_ble_eq_true rfl) dX2_handles_49 ?_
  refine j_dup2 C dX2_handles_52 ?_
  replace hf := gB1_e hf
  obtain ⟨x12, ex12, hf⟩ := hf
  refine j_iald C (tw_ld hinj ex12) dX2_handles_53 ?_
  refine j_iconst (v := (nI 1)) C dX2_handles_54 (by decide) ?_
  refine j_iadd C dX2_handles_55 ?_
  replace hf := gB1_e hf
  obtain ⟨w13, ew13, hf⟩ := hf
  refine j_iast C (tw_st hinj ew13) dX2_handles_56 ?_
  refine j_aload_n C dX2_handles_57 rfl ?_
  refine j_get (v := (ga (some (ad 5)))) C fl_X2_22_2 dX2_handles_58 (tw_F hinj rfl) ?_
  refine j_iload_n C dX2_handles_61 rfl ?_
  refine j_iload_n C dX2_handles_62 rfl ?_
  refine j_bipush (v := (nI 7)) C dX2_handles_63 (by decide) ?_
  replace hf := gB2_e hf
  obtain ⟨x15, w14, ew14, hf⟩ := hf
  refine j_callS (As := [(gi p1), (gi p2), (gi (nI 7))]) (rest := [(ga (some (ad 5)))]) (v := (some (gi x15))) C (by omega) (kt_X2_at hinj (by omega) ew14) q1801 q1802 q93 q1803 hd_X2_at (by decide) rfl (Nat.le_of_ble_eq_true rfl) dX2_handles_65 ?_
  refine j_iconst (v := (-1)) C dX2_handles_68 (by decide) ?_
  replace hf := gB1_e hf
  obtain ⟨w16, ew16, hf⟩ := hf
  refine j_iast C (tw_st hinj ew16) dX2_handles_69 ?_
  obtain ⟨rfl, rfl⟩ := gSome hf
  exact j_vret C hr hw dX2_handles_70
def dkwX2_signal_3 : List UInt8 := [79, 42, 180, 0, 22, 27, 16, 14, 28, 96, 184, 0, 163, 46, 172]
abbrev dktX2_signal_3 : List UInt8 := dkwX2_signal_3 ++ []
def dkwX2_signal_2 : List UInt8 := [16, 9, 160, 0, 6, 16, 252, 172, 42, 180, 0, 22, 27, 16, 14, 28, 96, 184, 0, 163, 92, 46, 4, 96]
abbrev dktX2_signal_2 : List UInt8 := dkwX2_signal_2 ++ dktX2_signal_3
def dkwX2_signal_1 : List UInt8 := [184, 0, 163, 46, 153, 0, 6, 16, 253, 172, 42, 180, 0, 22, 27, 16, 14, 28, 96, 184, 0, 163, 46]
abbrev dktX2_signal_1 : List UInt8 := dkwX2_signal_1 ++ dktX2_signal_2
def dkwX2_signal_0 : List UInt8 := [42, 27, 182, 0, 243, 153, 0, 10, 28, 184, 0, 160, 154, 0, 5, 2, 172, 42, 180, 0, 22, 27, 4]
abbrev dktX2_signal_0 : List UInt8 := dkwX2_signal_0 ++ dktX2_signal_1
theorem dksX2_signal_0 : cX2_signal.data.toList.drop 0 = dktX2_signal_0 := by decide +kernel
theorem dksX2_signal_1 : cX2_signal.data.toList.drop 23 = dktX2_signal_1 := dk_seg dksX2_signal_0 23 rfl rfl
theorem dksX2_signal_2 : cX2_signal.data.toList.drop 46 = dktX2_signal_2 := dk_seg dksX2_signal_1 23 rfl rfl
theorem dksX2_signal_3 : cX2_signal.data.toList.drop 70 = dktX2_signal_3 := dk_seg dksX2_signal_2 24 rfl rfl
theorem dX2_signal_0 : decode cX2_signal 0 = .ok (.aload_n 0, 1) := dk_42 (dk_at dksX2_signal_0 0 rfl rfl)
theorem dX2_signal_1 : decode cX2_signal 1 = .ok (.iload_n 1, 1) := dk_27 (dk_at dksX2_signal_0 1 rfl rfl)
theorem dX2_signal_2 : decode cX2_signal 2 = .ok (.invokevirtual 243, 3) := dk_182 0 243 (dk_at dksX2_signal_0 2 rfl rfl)
theorem dX2_signal_5 : decode cX2_signal 5 = .ok (.ifCond .eq 10, 3) := dk_153 0 10 (dk_at dksX2_signal_0 5 rfl rfl)
theorem dX2_signal_8 : decode cX2_signal 8 = .ok (.iload_n 2, 1) := dk_28 (dk_at dksX2_signal_0 8 rfl rfl)
theorem dX2_signal_9 : decode cX2_signal 9 = .ok (.invokestatic 160, 3) := dk_184 0 160 (dk_at dksX2_signal_0 9 rfl rfl)
theorem dX2_signal_12 : decode cX2_signal 12 = .ok (.ifCond .ne 5, 3) := dk_154 0 5 (dk_at dksX2_signal_0 12 rfl rfl)
theorem dX2_signal_15 : decode cX2_signal 15 = .ok (.iconst (-1), 1) := dk_2 (dk_at dksX2_signal_0 15 rfl rfl)
theorem dX2_signal_16 : decode cX2_signal 16 = .ok (.ireturn, 1) := dk_172 (dk_at dksX2_signal_0 16 rfl rfl)
theorem dX2_signal_17 : decode cX2_signal 17 = .ok (.aload_n 0, 1) := dk_42 (dk_at dksX2_signal_0 17 rfl rfl)
theorem dX2_signal_18 : decode cX2_signal 18 = .ok (.getfield 22, 3) := dk_180 0 22 (dk_at dksX2_signal_0 18 rfl rfl)
theorem dX2_signal_21 : decode cX2_signal 21 = .ok (.iload_n 1, 1) := dk_27 (dk_at dksX2_signal_0 21 rfl rfl)
theorem dX2_signal_22 : decode cX2_signal 22 = .ok (.iconst 1, 1) := dk_4 (dk_at dksX2_signal_0 22 rfl rfl)
theorem dX2_signal_23 : decode cX2_signal 23 = .ok (.invokestatic 163, 3) := dk_184 0 163 (dk_at dksX2_signal_1 0 rfl rfl)
theorem dX2_signal_26 : decode cX2_signal 26 = .ok (.iaload, 1) := dk_46 (dk_at dksX2_signal_1 3 rfl rfl)
theorem dX2_signal_27 : decode cX2_signal 27 = .ok (.ifCond .eq 6, 3) := dk_153 0 6 (dk_at dksX2_signal_1 4 rfl rfl)
theorem dX2_signal_30 : decode cX2_signal 30 = .ok (.bipush (-3), 2) := dk_16 253 (dk_at dksX2_signal_1 7 rfl rfl)
theorem dX2_signal_32 : decode cX2_signal 32 = .ok (.ireturn, 1) := dk_172 (dk_at dksX2_signal_1 9 rfl rfl)
theorem dX2_signal_33 : decode cX2_signal 33 = .ok (.aload_n 0, 1) := dk_42 (dk_at dksX2_signal_1 10 rfl rfl)
theorem dX2_signal_34 : decode cX2_signal 34 = .ok (.getfield 22, 3) := dk_180 0 22 (dk_at dksX2_signal_1 11 rfl rfl)
theorem dX2_signal_37 : decode cX2_signal 37 = .ok (.iload_n 1, 1) := dk_27 (dk_at dksX2_signal_1 14 rfl rfl)
theorem dX2_signal_38 : decode cX2_signal 38 = .ok (.bipush 14, 2) := dk_16 14 (dk_at dksX2_signal_1 15 rfl rfl)
theorem dX2_signal_40 : decode cX2_signal 40 = .ok (.iload_n 2, 1) := dk_28 (dk_at dksX2_signal_1 17 rfl rfl)
theorem dX2_signal_41 : decode cX2_signal 41 = .ok (.iadd, 1) := dk_96 (dk_at dksX2_signal_1 18 rfl rfl)
theorem dX2_signal_42 : decode cX2_signal 42 = .ok (.invokestatic 163, 3) := dk_184 0 163 (dk_at dksX2_signal_1 19 rfl rfl)
theorem dX2_signal_45 : decode cX2_signal 45 = .ok (.iaload, 1) := dk_46 (dk_at dksX2_signal_1 22 rfl rfl)
theorem dX2_signal_46 : decode cX2_signal 46 = .ok (.bipush 9, 2) := dk_16 9 (dk_at dksX2_signal_2 0 rfl rfl)
theorem dX2_signal_48 : decode cX2_signal 48 = .ok (.if_icmp .ne 6, 3) := dk_160 0 6 (dk_at dksX2_signal_2 2 rfl rfl)
theorem dX2_signal_51 : decode cX2_signal 51 = .ok (.bipush (-4), 2) := dk_16 252 (dk_at dksX2_signal_2 5 rfl rfl)
theorem dX2_signal_53 : decode cX2_signal 53 = .ok (.ireturn, 1) := dk_172 (dk_at dksX2_signal_2 7 rfl rfl)
theorem dX2_signal_54 : decode cX2_signal 54 = .ok (.aload_n 0, 1) := dk_42 (dk_at dksX2_signal_2 8 rfl rfl)
theorem dX2_signal_55 : decode cX2_signal 55 = .ok (.getfield 22, 3) := dk_180 0 22 (dk_at dksX2_signal_2 9 rfl rfl)
theorem dX2_signal_58 : decode cX2_signal 58 = .ok (.iload_n 1, 1) := dk_27 (dk_at dksX2_signal_2 12 rfl rfl)
theorem dX2_signal_59 : decode cX2_signal 59 = .ok (.bipush 14, 2) := dk_16 14 (dk_at dksX2_signal_2 13 rfl rfl)
theorem dX2_signal_61 : decode cX2_signal 61 = .ok (.iload_n 2, 1) := dk_28 (dk_at dksX2_signal_2 15 rfl rfl)
theorem dX2_signal_62 : decode cX2_signal 62 = .ok (.iadd, 1) := dk_96 (dk_at dksX2_signal_2 16 rfl rfl)
theorem dX2_signal_63 : decode cX2_signal 63 = .ok (.invokestatic 163, 3) := dk_184 0 163 (dk_at dksX2_signal_2 17 rfl rfl)
theorem dX2_signal_66 : decode cX2_signal 66 = .ok (.dup2, 1) := dk_92 (dk_at dksX2_signal_2 20 rfl rfl)
theorem dX2_signal_67 : decode cX2_signal 67 = .ok (.iaload, 1) := dk_46 (dk_at dksX2_signal_2 21 rfl rfl)
theorem dX2_signal_68 : decode cX2_signal 68 = .ok (.iconst 1, 1) := dk_4 (dk_at dksX2_signal_2 22 rfl rfl)
theorem dX2_signal_69 : decode cX2_signal 69 = .ok (.iadd, 1) := dk_96 (dk_at dksX2_signal_2 23 rfl rfl)
theorem dX2_signal_70 : decode cX2_signal 70 = .ok (.iastore, 1) := dk_79 (dk_at dksX2_signal_3 0 rfl rfl)
theorem dX2_signal_71 : decode cX2_signal 71 = .ok (.aload_n 0, 1) := dk_42 (dk_at dksX2_signal_3 1 rfl rfl)
theorem dX2_signal_72 : decode cX2_signal 72 = .ok (.getfield 22, 3) := dk_180 0 22 (dk_at dksX2_signal_3 2 rfl rfl)
theorem dX2_signal_75 : decode cX2_signal 75 = .ok (.iload_n 1, 1) := dk_27 (dk_at dksX2_signal_3 5 rfl rfl)
theorem dX2_signal_76 : decode cX2_signal 76 = .ok (.bipush 14, 2) := dk_16 14 (dk_at dksX2_signal_3 6 rfl rfl)
theorem dX2_signal_78 : decode cX2_signal 78 = .ok (.iload_n 2, 1) := dk_28 (dk_at dksX2_signal_3 8 rfl rfl)
theorem dX2_signal_79 : decode cX2_signal 79 = .ok (.iadd, 1) := dk_96 (dk_at dksX2_signal_3 9 rfl rfl)
theorem dX2_signal_80 : decode cX2_signal 80 = .ok (.invokestatic 163, 3) := dk_184 0 163 (dk_at dksX2_signal_3 10 rfl rfl)
theorem dX2_signal_83 : decode cX2_signal 83 = .ok (.iaload, 1) := dk_46 (dk_at dksX2_signal_3 13 rfl rfl)
theorem dX2_signal_84 : decode cX2_signal 84 = .ok (.ireturn, 1) := dk_172 (dk_at dksX2_signal_3 14 rfl rfl)
def t_X2_signal (p1 : Int32) (p2 : Int32) (w0 : TS) : Option (Int32 × TS) := gB2 (t_X2_isInstance p1 w0) fun x2 w1 => if x2 = 0 then some ((-1), w1) else gB2 (t_X2_isCode p2 w1) fun x5 w4 => if x5 = 0 then some ((-1), w4) else gB2 (t_X2_of p1 (nI 1) w4) fun x8 w7 => gB1 (tLd w7 5 x8) fun x9 => if x9 = 0 then gB2 (t_X2_of p1 ((nI 14) + p2) w7) fun x12 w11 => gB1 (tLd w11 5 x12) fun x13 => if x13 = (nI 9) then some ((-4), w11) else gB2 (t_X2_of p1 ((nI 14) + p2) w11) fun x16 w15 => gB1 (tLd w15 5 x16) fun x17 => gB1 (tSt w15 5 x16 (x17 + (nI 1))) fun w18 => gB2 (t_X2_of p1 ((nI 14) + p2) w18) fun x20 w19 => gB1 (tLd w19 5 x20) fun x21 => some (x21, w19) else some ((-3), w7)
set_option maxHeartbeats 4000000 in
set_option maxRecDepth 100000 in
theorem kt_X2_signal {D : va_G} {dA : Nat → ClassId} {A : Nat → Prop} {K : Nat → Nat} {l : Launch} {wb : gw} {ad : Nat → Nat} (hinj : tInj ad) {h : Nat} (hh : 2 ≤ h) {p1 : Int32} {p2 : Int32} {w0 ww : TS} {rr : Int32} (hf : t_X2_signal p1 p2 w0 = some (rr, ww)) : gMet D dA A K l yX2_signal (ws_ yX2_signal cX2_signal 3 (some .int)) h [(ga (some (ad 0))), (gi p1), (gi p2)] (some (gi rr)) (twOf wb ad w0) (twOf wb ad ww) := by
  refine j_start (own := RX2) (by decide +kernel) rfl (Nat.le_of_ble_eq_true rfl) ?_
  intro p e R s m args below meth c C hr hin hw
  unfold t_X2_signal at hf
  show gJ D dA A K p l e R s m args below meth c (gEnd D dA A K below args s (twOf wb ad w0) (some (gi rr)) (twOf wb ad ww)) 3 0 [(0, (ga (some (ad 0)))), (1, (gi p1)), (2, (gi p2))] [] (twOf wb ad w0)
  refine j_aload_n C dX2_signal_0 rfl ?_
  refine j_iload_n C dX2_signal_1 rfl ?_
  replace hf := gB2_e hf
  obtain ⟨x2, w1, ew1, hf⟩ := hf
  refine j_callV (As := [(gi p1)]) (rest := []) (v := (some (gi x2))) C (by omega) (kt_X2_isInstance hinj (by omega) ew1) (tw_cls hinj) rfl q1900 q1902 qs81 q93 q1903 ⟨rfl, hd_X2_isInstance⟩ (by decide) rfl (Nat.le_of_ble_eq_true rfl) dX2_signal_2 ?_
  refine j_if_eq (tgt := 15) C dX2_signal_5 (by decide) (fun c3 => ?_) (fun c3 => ?_)
  · replace hf := gIf_t hf c3
    refine j_iconst (v := (-1)) C dX2_signal_15 (by decide) ?_
    obtain ⟨rfl, rfl⟩ := gSome hf
    exact j_iret C hr hw dX2_signal_16
  · replace hf := gIf_f hf c3
    refine j_iload_n C dX2_signal_8 rfl ?_
    replace hf := gB2_e hf
    obtain ⟨x5, w4, ew4, hf⟩ := hf
    refine j_callS (As := [(gi p2)]) (rest := []) (v := (some (gi x5))) C (by omega) (kt_X2_isCode hinj (by omega) ew4) q1783 q1784 q93 q1785 hd_X2_isCode (by decide) rfl (Nat.le_of_ble_eq_true rfl) dX2_signal_9 ?_
    refine j_if_ne (tgt := 17) C dX2_signal_12 (by decide) (fun c6 => ?_) (fun c6 => ?_)
    · replace hf := gIf_f hf c6
      refine j_aload_n C dX2_signal_17 rfl ?_
      refine j_get (v := (ga (some (ad 5)))) C fl_X2_22_2 dX2_signal_18 (tw_F hinj rfl) ?_
      refine j_iload_n C dX2_signal_21 rfl ?_
      refine j_iconst (v := (nI 1)) C dX2_signal_22 (by decide) ?_
      replace hf := gB2_e hf
      obtain ⟨x8, w7, ew7, hf⟩ := hf
      refine j_callS (As := [(gi p1), (gi (nI 1))]) (rest := [(ga (some (ad 5)))]) (v := (some (gi x8))) C (by omega) (kt_X2_of hinj (by omega) ew7) q1798 q1799 q93 q1800 hd_X2_of (by decide) rfl (Nat.le_of_ble_eq_true rfl) dX2_signal_23 ?_
      replace hf := gB1_e hf
      obtain ⟨x9, ex9, hf⟩ := hf
      refine j_iald C (tw_ld hinj ex9) dX2_signal_26 ?_
      refine j_if_eq (tgt := 33) C dX2_signal_27 (by decide) (fun c10 => ?_) (fun c10 => ?_)
      · replace hf := gIf_t hf c10
        refine j_aload_n C dX2_signal_33 rfl ?_
        refine j_get (v := (ga (some (ad 5)))) C fl_X2_22_2 dX2_signal_34 (tw_F hinj rfl) ?_
        refine j_iload_n C dX2_signal_37 rfl ?_
        refine j_bipush (v := (nI 14)) C dX2_signal_38 (by decide) ?_
        refine j_iload_n C dX2_signal_40 rfl ?_
        refine j_iadd C dX2_signal_41 ?_
        replace hf := gB2_e hf
        obtain ⟨x12, w11, ew11, hf⟩ := hf
        refine j_callS (As := [(gi p1), (gi ((nI 14) + p2))]) (rest := [(ga (some (ad 5)))]) (v := (some (gi x12))) C (by omega) (kt_X2_of hinj (by omega) ew11) q1798 q1799 q93 q1800 hd_X2_of (by decide) rfl (Nat.le_of_ble_eq_true rfl) dX2_signal_42 ?_
        replace hf := gB1_e hf
        obtain ⟨x13, ex13, hf⟩ := hf
        refine j_iald C (tw_ld hinj ex13) dX2_signal_45 ?_
        refine j_bipush (v := (nI 9)) C dX2_signal_46 (by decide) ?_
        refine j_icmp_ne (tgt := 54) C dX2_signal_48 (by decide) (fun c14 => ?_) (fun c14 => ?_)
        · replace hf := gIf_f hf c14
          refine j_aload_n C dX2_signal_54 rfl ?_
          refine j_get (v := (ga (some (ad 5)))) C fl_X2_22_2 dX2_signal_55 (tw_F hinj rfl) ?_
          refine j_iload_n C dX2_signal_58 rfl ?_
          refine j_bipush (v := (nI 14)) C dX2_signal_59 (by decide) ?_
          refine j_iload_n C dX2_signal_61 rfl ?_
          refine j_iadd C dX2_signal_62 ?_
          replace hf := gB2_e hf
          obtain ⟨x16, w15, ew15, hf⟩ := hf
          refine j_callS (As := [(gi p1), (gi ((nI 14) + p2))]) (rest := [(ga (some (ad 5)))]) (v := (some (gi x16))) C (by omega) (kt_X2_of hinj (by omega) ew15) q1798 q1799 q93 q1800 hd_X2_of (by decide) rfl (Nat.le_of_ble_eq_true rfl) dX2_signal_63 ?_
          refine j_dup2 C dX2_signal_66 ?_
          replace hf := gB1_e hf
          obtain ⟨x17, ex17, hf⟩ := hf
          refine j_iald C (tw_ld hinj ex17) dX2_signal_67 ?_
          refine j_iconst (v := (nI 1)) C dX2_signal_68 (by decide) ?_
          refine j_iadd C dX2_signal_69 ?_
          replace hf := gB1_e hf
          obtain ⟨w18, ew18, hf⟩ := hf
          refine j_iast C (tw_st hinj ew18) dX2_signal_70 ?_
          refine j_aload_n C dX2_signal_71 rfl ?_
          refine j_get (v := (ga (some (ad 5)))) C fl_X2_22_2 dX2_signal_72 (tw_F hinj rfl) ?_
          refine j_iload_n C dX2_signal_75 rfl ?_
          refine j_bipush (v := (nI 14)) C dX2_signal_76 (by decide) ?_
          refine j_iload_n C dX2_signal_78 rfl ?_
          refine j_iadd C dX2_signal_79 ?_
          replace hf := gB2_e hf
          obtain ⟨x20, w19, ew19, hf⟩ := hf
          refine j_callS (As := [(gi p1), (gi ((nI 14) + p2))]) (rest := [(ga (some (ad 5)))]) (v := (some (gi x20))) C (by omega) (kt_X2_of hinj (by omega) ew19) q1798 q1799 q93 q1800 hd_X2_of (by decide) rfl (Nat.le_of_ble_eq_true rfl) dX2_signal_80 ?_
          replace hf := gB1_e hf
          obtain ⟨x21, ex21, hf⟩ := hf
          refine j_iald C (tw_ld hinj ex21) dX2_signal_83 ?_
          obtain ⟨rfl, rfl⟩ := gSome hf
          exact j_iret C hr hw dX2_signal_84
        · replace hf := gIf_t hf c14
          refine j_bipush (v := (-4)) C dX2_signal_51 (by decide) ?_
          obtain ⟨rfl, rfl⟩ := gSome hf
          exact j_iret C hr hw dX2_signal_53
      · replace hf := gIf_f hf c10
        refine j_bipush (v := (-3)) C dX2_signal_30 (by decide) ?_
        obtain ⟨rfl, rfl⟩ := gSome hf
        exact j_iret C hr hw dX2_signal_32
    · replace hf := gIf_t hf c6
      refine j_iconst (v := (-1)) C dX2_signal_15 (by decide) ?_
      obtain ⟨rfl, rfl⟩ := gSome hf
      exact j_iret C hr hw dX2_signal_16
def dkwX2_entry_2 : List UInt8 := [46, 167, 0, 4, 2, 172]
abbrev dktX2_entry_2 : List UInt8 := dkwX2_entry_2 ++ []
def dkwX2_entry_1 : List UInt8 := [3, 5, 184, 0, 38, 153, 0, 23, 42, 180, 0, 22, 27, 16, 22, 6, 28, 104, 96, 29, 96, 184, 0, 163]
abbrev dktX2_entry_1 : List UInt8 := dkwX2_entry_1 ++ dktX2_entry_2
def dkwX2_entry_0 : List UInt8 := [42, 27, 182, 0, 243, 153, 0, 47, 28, 3, 42, 27, 182, 0, 253, 4, 100, 184, 0, 38, 153, 0, 32, 29]
abbrev dktX2_entry_0 : List UInt8 := dkwX2_entry_0 ++ dktX2_entry_1
theorem dksX2_entry_0 : cX2_entry.data.toList.drop 0 = dktX2_entry_0 := by decide +kernel
theorem dksX2_entry_1 : cX2_entry.data.toList.drop 24 = dktX2_entry_1 := dk_seg dksX2_entry_0 24 rfl rfl
theorem dksX2_entry_2 : cX2_entry.data.toList.drop 48 = dktX2_entry_2 := dk_seg dksX2_entry_1 24 rfl rfl
theorem dX2_entry_0 : decode cX2_entry 0 = .ok (.aload_n 0, 1) := dk_42 (dk_at dksX2_entry_0 0 rfl rfl)
theorem dX2_entry_1 : decode cX2_entry 1 = .ok (.iload_n 1, 1) := dk_27 (dk_at dksX2_entry_0 1 rfl rfl)
theorem dX2_entry_2 : decode cX2_entry 2 = .ok (.invokevirtual 243, 3) := dk_182 0 243 (dk_at dksX2_entry_0 2 rfl rfl)
theorem dX2_entry_5 : decode cX2_entry 5 = .ok (.ifCond .eq 47, 3) := dk_153 0 47 (dk_at dksX2_entry_0 5 rfl rfl)
theorem dX2_entry_8 : decode cX2_entry 8 = .ok (.iload_n 2, 1) := dk_28 (dk_at dksX2_entry_0 8 rfl rfl)
theorem dX2_entry_9 : decode cX2_entry 9 = .ok (.iconst 0, 1) := dk_3 (dk_at dksX2_entry_0 9 rfl rfl)
theorem dX2_entry_10 : decode cX2_entry 10 = .ok (.aload_n 0, 1) := dk_42 (dk_at dksX2_entry_0 10 rfl rfl)
theorem dX2_entry_11 : decode cX2_entry 11 = .ok (.iload_n 1, 1) := dk_27 (dk_at dksX2_entry_0 11 rfl rfl)
theorem dX2_entry_12 : decode cX2_entry 12 = .ok (.invokevirtual 253, 3) := dk_182 0 253 (dk_at dksX2_entry_0 12 rfl rfl)
theorem dX2_entry_15 : decode cX2_entry 15 = .ok (.iconst 1, 1) := dk_4 (dk_at dksX2_entry_0 15 rfl rfl)
theorem dX2_entry_16 : decode cX2_entry 16 = .ok (.isub, 1) := dk_100 (dk_at dksX2_entry_0 16 rfl rfl)
theorem dX2_entry_17 : decode cX2_entry 17 = .ok (.invokestatic 38, 3) := dk_184 0 38 (dk_at dksX2_entry_0 17 rfl rfl)
theorem dX2_entry_20 : decode cX2_entry 20 = .ok (.ifCond .eq 32, 3) := dk_153 0 32 (dk_at dksX2_entry_0 20 rfl rfl)
theorem dX2_entry_23 : decode cX2_entry 23 = .ok (.iload_n 3, 1) := dk_29 (dk_at dksX2_entry_0 23 rfl rfl)
theorem dX2_entry_24 : decode cX2_entry 24 = .ok (.iconst 0, 1) := dk_3 (dk_at dksX2_entry_1 0 rfl rfl)
theorem dX2_entry_25 : decode cX2_entry 25 = .ok (.iconst 2, 1) := dk_5 (dk_at dksX2_entry_1 1 rfl rfl)
theorem dX2_entry_26 : decode cX2_entry 26 = .ok (.invokestatic 38, 3) := dk_184 0 38 (dk_at dksX2_entry_1 2 rfl rfl)
theorem dX2_entry_29 : decode cX2_entry 29 = .ok (.ifCond .eq 23, 3) := dk_153 0 23 (dk_at dksX2_entry_1 5 rfl rfl)
theorem dX2_entry_32 : decode cX2_entry 32 = .ok (.aload_n 0, 1) := dk_42 (dk_at dksX2_entry_1 8 rfl rfl)
theorem dX2_entry_33 : decode cX2_entry 33 = .ok (.getfield 22, 3) := dk_180 0 22 (dk_at dksX2_entry_1 9 rfl rfl)
theorem dX2_entry_36 : decode cX2_entry 36 = .ok (.iload_n 1, 1) := dk_27 (dk_at dksX2_entry_1 12 rfl rfl)
theorem dX2_entry_37 : decode cX2_entry 37 = .ok (.bipush 22, 2) := dk_16 22 (dk_at dksX2_entry_1 13 rfl rfl)
theorem dX2_entry_39 : decode cX2_entry 39 = .ok (.iconst 3, 1) := dk_6 (dk_at dksX2_entry_1 15 rfl rfl)
theorem dX2_entry_40 : decode cX2_entry 40 = .ok (.iload_n 2, 1) := dk_28 (dk_at dksX2_entry_1 16 rfl rfl)
theorem dX2_entry_41 : decode cX2_entry 41 = .ok (.imul, 1) := dk_104 (dk_at dksX2_entry_1 17 rfl rfl)
theorem dX2_entry_42 : decode cX2_entry 42 = .ok (.iadd, 1) := dk_96 (dk_at dksX2_entry_1 18 rfl rfl)
theorem dX2_entry_43 : decode cX2_entry 43 = .ok (.iload_n 3, 1) := dk_29 (dk_at dksX2_entry_1 19 rfl rfl)
theorem dX2_entry_44 : decode cX2_entry 44 = .ok (.iadd, 1) := dk_96 (dk_at dksX2_entry_1 20 rfl rfl)
theorem dX2_entry_45 : decode cX2_entry 45 = .ok (.invokestatic 163, 3) := dk_184 0 163 (dk_at dksX2_entry_1 21 rfl rfl)
theorem dX2_entry_48 : decode cX2_entry 48 = .ok (.iaload, 1) := dk_46 (dk_at dksX2_entry_2 0 rfl rfl)
theorem dX2_entry_49 : decode cX2_entry 49 = .ok (.goto 4, 3) := dk_167 0 4 (dk_at dksX2_entry_2 1 rfl rfl)
theorem dX2_entry_52 : decode cX2_entry 52 = .ok (.iconst (-1), 1) := dk_2 (dk_at dksX2_entry_2 4 rfl rfl)
theorem dX2_entry_53 : decode cX2_entry 53 = .ok (.ireturn, 1) := dk_172 (dk_at dksX2_entry_2 5 rfl rfl)
def t_X2_entry (p1 : Int32) (p2 : Int32) (p3 : Int32) (w0 : TS) : Option (Int32 × TS) := gB2 (t_X2_isInstance p1 w0) fun x2 w1 => gBd (fun (w4 : TS) => some ((-1), w4)) fun k3 => if x2 = 0 then k3 w1 else gB2 (t_X2_keptEntries p1 w1) fun x7 w6 => gB2 (t_X2_isIn p2 (nI 0) (x7 - (nI 1)) w6) fun x9 w8 => if x9 = 0 then k3 w8 else gB2 (t_X2_isIn p3 (nI 0) (nI 2) w8) fun x12 w11 => if x12 = 0 then k3 w11 else gB2 (t_X2_of p1 (((nI 22) + ((nI 3) * p2)) + p3) w11) fun x15 w14 => gB1 (tLd w14 5 x15) fun x16 => some (x16, w14)
set_option maxHeartbeats 4000000 in
set_option maxRecDepth 100000 in
theorem kt_X2_entry {D : va_G} {dA : Nat → ClassId} {A : Nat → Prop} {K : Nat → Nat} {l : Launch} {wb : gw} {ad : Nat → Nat} (hinj : tInj ad) {h : Nat} (hh : 2 ≤ h) {p1 : Int32} {p2 : Int32} {p3 : Int32} {w0 ww : TS} {rr : Int32} (hf : t_X2_entry p1 p2 p3 w0 = some (rr, ww)) : gMet D dA A K l yX2_entry (ws_ yX2_entry cX2_entry 4 (some .int)) h [(ga (some (ad 0))), (gi p1), (gi p2), (gi p3)] (some (gi rr)) (twOf wb ad w0) (twOf wb ad ww) := by
  refine j_start (own := RX2) (by decide +kernel) rfl (Nat.le_of_ble_eq_true rfl) ?_
  intro p e R s m args below meth c C hr hin hw
  unfold t_X2_entry at hf
  show gJ D dA A K p l e R s m args below meth c (gEnd D dA A K below args s (twOf wb ad w0) (some (gi rr)) (twOf wb ad ww)) 4 0 [(0, (ga (some (ad 0)))), (1, (gi p1)), (2, (gi p2)), (3, (gi p3))] [] (twOf wb ad w0)
  refine j_aload_n C dX2_entry_0 rfl ?_
  refine j_iload_n C dX2_entry_1 rfl ?_
  replace hf := gB2_e hf
  obtain ⟨x2, w1, ew1, hf⟩ := hf
  refine j_callV (As := [(gi p1)]) (rest := []) (v := (some (gi x2))) C (by omega) (kt_X2_isInstance hinj (by omega) ew1) (tw_cls hinj) rfl q1900 q1902 qs81 q93 q1903 ⟨rfl, hd_X2_isInstance⟩ (by decide) rfl (Nat.le_of_ble_eq_true rfl) dX2_entry_2 ?_
  replace hf := gBd_x hf
  obtain ⟨k3, ek3, hf⟩ := hf
  have jk3 : ∀ (w4 : TS), k3 w4 = some (rr, ww) → gJ D dA A K p l e R s m args below meth c (gEnd D dA A K below args s (twOf wb ad w0) (some (gi rr)) (twOf wb ad ww)) 4 52 [] [] (twOf wb ad w4) := by
    intro w4 hf
    rw [ek3] at hf
    dsimp only at hf
    refine j_iconst (v := (-1)) C dX2_entry_52 (by decide) ?_
    obtain ⟨rfl, rfl⟩ := gSome hf
    exact j_iret C hr hw dX2_entry_53
  clear ek3
  refine j_if_eq (tgt := 52) C dX2_entry_5 (by decide) (fun c5 => ?_) (fun c5 => ?_)
  · replace hf := gIf_t hf c5
    refine j_sub (lv' := []) (gL_nil) ?_
    exact jk3 _ hf
  · replace hf := gIf_f hf c5
    refine j_iload_n C dX2_entry_8 rfl ?_
    refine j_iconst (v := (nI 0)) C dX2_entry_9 (by decide) ?_
    refine j_aload_n C dX2_entry_10 rfl ?_
    refine j_iload_n C dX2_entry_11 rfl ?_
    replace hf := gB2_e hf
    obtain ⟨x7, w6, ew6, hf⟩ := hf
    refine j_callV (As := [(gi p1)]) (rest := [(gi (nI 0)), (gi p2)]) (v := (some (gi x7))) C (by omega) (kt_X2_keptEntries hinj (by omega) ew6) (tw_cls hinj) rfl q1929 q1931 qs83 q93 q1932 ⟨rfl, hd_X2_keptEntries⟩ (by decide) rfl (Nat.le_of_ble_eq_true rfl) dX2_entry_12 ?_
    refine j_iconst (v := (nI 1)) C dX2_entry_15 (by decide) ?_
    refine j_isub C dX2_entry_16 ?_
    replace hf := gB2_e hf
    obtain ⟨x9, w8, ew8, hf⟩ := hf
    refine j_callS (As := [(gi p2), (gi (nI 0)), (gi (x7 - (nI 1)))]) (rest := []) (v := (some (gi x9))) C (by omega) (kt_X2_isIn hinj (by omega) ew8) q1662 q1663 q93 q1664 hd_X2_isIn (by decide) rfl (Nat.le_of_ble_eq_true rfl) dX2_entry_17 ?_
    refine j_if_eq (tgt := 52) C dX2_entry_20 (by decide) (fun c10 => ?_) (fun c10 => ?_)
    · replace hf := gIf_t hf c10
      refine j_sub (lv' := []) (gL_nil) ?_
      exact jk3 _ hf
    · replace hf := gIf_f hf c10
      refine j_iload_n C dX2_entry_23 rfl ?_
      refine j_iconst (v := (nI 0)) C dX2_entry_24 (by decide) ?_
      refine j_iconst (v := (nI 2)) C dX2_entry_25 (by decide) ?_
      replace hf := gB2_e hf
      obtain ⟨x12, w11, ew11, hf⟩ := hf
      refine j_callS (As := [(gi p3), (gi (nI 0)), (gi (nI 2))]) (rest := []) (v := (some (gi x12))) C (by omega) (kt_X2_isIn hinj (by omega) ew11) q1662 q1663 q93 q1664 hd_X2_isIn (by decide) rfl (Nat.le_of_ble_eq_true rfl) dX2_entry_26 ?_
      refine j_if_eq (tgt := 52) C dX2_entry_29 (by decide) (fun c13 => ?_) (fun c13 => ?_)
      · replace hf := gIf_t hf c13
        refine j_sub (lv' := []) (gL_nil) ?_
        exact jk3 _ hf
      · replace hf := gIf_f hf c13
        refine j_aload_n C dX2_entry_32 rfl ?_
        refine j_get (v := (ga (some (ad 5)))) C fl_X2_22_2 dX2_entry_33 (tw_F hinj rfl) ?_
        refine j_iload_n C dX2_entry_36 rfl ?_
        refine j_bipush (v := (nI 22)) C dX2_entry_37 (by decide) ?_
        refine j_iconst (v := (nI 3)) C dX2_entry_39 (by decide) ?_
        refine j_iload_n C dX2_entry_40 rfl ?_
        refine j_imul C dX2_entry_41 ?_
        refine j_iadd C dX2_entry_42 ?_
        refine j_iload_n C dX2_entry_43 rfl ?_
        refine j_iadd C dX2_entry_44 ?_
        replace hf := gB2_e hf
        obtain ⟨x15, w14, ew14, hf⟩ := hf
        refine j_callS (As := [(gi p1), (gi (((nI 22) + ((nI 3) * p2)) + p3))]) (rest := [(ga (some (ad 5)))]) (v := (some (gi x15))) C (by omega) (kt_X2_of hinj (by omega) ew14) q1798 q1799 q93 q1800 hd_X2_of (by decide) rfl (Nat.le_of_ble_eq_true rfl) dX2_entry_45 ?_
        replace hf := gB1_e hf
        obtain ⟨x16, ex16, hf⟩ := hf
        refine j_iald C (tw_ld hinj ex16) dX2_entry_48 ?_
        refine j_goto (tgt := 53) C dX2_entry_49 (by decide) ?_
        obtain ⟨rfl, rfl⟩ := gSome hf
        exact j_iret C hr hw dX2_entry_53
def dkwX2_runs_1 : List UInt8 := [184, 0, 169, 46, 4, 160, 0, 7, 4, 167, 0, 4, 3, 172]
abbrev dktX2_runs_1 : List UInt8 := dkwX2_runs_1 ++ []
def dkwX2_runs_0 : List UInt8 := [42, 27, 28, 3, 182, 0, 171, 4, 6, 184, 0, 38, 153, 0, 22, 42, 180, 0, 22, 27, 28, 3]
abbrev dktX2_runs_0 : List UInt8 := dkwX2_runs_0 ++ dktX2_runs_1
theorem dksX2_runs_0 : cX2_runs.data.toList.drop 0 = dktX2_runs_0 := by decide +kernel
theorem dksX2_runs_1 : cX2_runs.data.toList.drop 22 = dktX2_runs_1 := dk_seg dksX2_runs_0 22 rfl rfl
theorem dX2_runs_0 : decode cX2_runs 0 = .ok (.aload_n 0, 1) := dk_42 (dk_at dksX2_runs_0 0 rfl rfl)
theorem dX2_runs_1 : decode cX2_runs 1 = .ok (.iload_n 1, 1) := dk_27 (dk_at dksX2_runs_0 1 rfl rfl)
theorem dX2_runs_2 : decode cX2_runs 2 = .ok (.iload_n 2, 1) := dk_28 (dk_at dksX2_runs_0 2 rfl rfl)
theorem dX2_runs_3 : decode cX2_runs 3 = .ok (.iconst 0, 1) := dk_3 (dk_at dksX2_runs_0 3 rfl rfl)
theorem dX2_runs_4 : decode cX2_runs 4 = .ok (.invokevirtual 171, 3) := dk_182 0 171 (dk_at dksX2_runs_0 4 rfl rfl)
theorem dX2_runs_7 : decode cX2_runs 7 = .ok (.iconst 1, 1) := dk_4 (dk_at dksX2_runs_0 7 rfl rfl)
theorem dX2_runs_8 : decode cX2_runs 8 = .ok (.iconst 3, 1) := dk_6 (dk_at dksX2_runs_0 8 rfl rfl)
theorem dX2_runs_9 : decode cX2_runs 9 = .ok (.invokestatic 38, 3) := dk_184 0 38 (dk_at dksX2_runs_0 9 rfl rfl)
theorem dX2_runs_12 : decode cX2_runs 12 = .ok (.ifCond .eq 22, 3) := dk_153 0 22 (dk_at dksX2_runs_0 12 rfl rfl)
theorem dX2_runs_15 : decode cX2_runs 15 = .ok (.aload_n 0, 1) := dk_42 (dk_at dksX2_runs_0 15 rfl rfl)
theorem dX2_runs_16 : decode cX2_runs 16 = .ok (.getfield 22, 3) := dk_180 0 22 (dk_at dksX2_runs_0 16 rfl rfl)
theorem dX2_runs_19 : decode cX2_runs 19 = .ok (.iload_n 1, 1) := dk_27 (dk_at dksX2_runs_0 19 rfl rfl)
theorem dX2_runs_20 : decode cX2_runs 20 = .ok (.iload_n 2, 1) := dk_28 (dk_at dksX2_runs_0 20 rfl rfl)
theorem dX2_runs_21 : decode cX2_runs 21 = .ok (.iconst 0, 1) := dk_3 (dk_at dksX2_runs_0 21 rfl rfl)
theorem dX2_runs_22 : decode cX2_runs 22 = .ok (.invokestatic 169, 3) := dk_184 0 169 (dk_at dksX2_runs_1 0 rfl rfl)
theorem dX2_runs_25 : decode cX2_runs 25 = .ok (.iaload, 1) := dk_46 (dk_at dksX2_runs_1 3 rfl rfl)
theorem dX2_runs_26 : decode cX2_runs 26 = .ok (.iconst 1, 1) := dk_4 (dk_at dksX2_runs_1 4 rfl rfl)
theorem dX2_runs_27 : decode cX2_runs 27 = .ok (.if_icmp .ne 7, 3) := dk_160 0 7 (dk_at dksX2_runs_1 5 rfl rfl)
theorem dX2_runs_30 : decode cX2_runs 30 = .ok (.iconst 1, 1) := dk_4 (dk_at dksX2_runs_1 8 rfl rfl)
theorem dX2_runs_31 : decode cX2_runs 31 = .ok (.goto 4, 3) := dk_167 0 4 (dk_at dksX2_runs_1 9 rfl rfl)
theorem dX2_runs_34 : decode cX2_runs 34 = .ok (.iconst 0, 1) := dk_3 (dk_at dksX2_runs_1 12 rfl rfl)
theorem dX2_runs_35 : decode cX2_runs 35 = .ok (.ireturn, 1) := dk_172 (dk_at dksX2_runs_1 13 rfl rfl)
def t_X2_runs (p1 : Int32) (p2 : Int32) (w0 : TS) : Option (Int32 × TS) := gB2 (t_X2_nodePart p1 p2 (nI 0) w0) fun x2 w1 => gB2 (t_X2_isIn x2 (nI 1) (nI 3) w1) fun x4 w3 => gBd (fun (w6 : TS) => some ((nI 0), w6)) fun k5 => if x4 = 0 then k5 w3 else gB2 (t_X2_at p1 p2 (nI 0) w3) fun x9 w8 => gB1 (tLd w8 5 x9) fun x10 => if x10 = (nI 1) then some ((nI 1), w8) else k5 w8
set_option maxHeartbeats 4000000 in
set_option maxRecDepth 100000 in
theorem kt_X2_runs {D : va_G} {dA : Nat → ClassId} {A : Nat → Prop} {K : Nat → Nat} {l : Launch} {wb : gw} {ad : Nat → Nat} (hinj : tInj ad) {h : Nat} (hh : 3 ≤ h) {p1 : Int32} {p2 : Int32} {w0 ww : TS} {rr : Int32} (hf : t_X2_runs p1 p2 w0 = some (rr, ww)) : gMet D dA A K l yX2_runs (ws_ yX2_runs cX2_runs 3 (some .boolean)) h [(ga (some (ad 0))), (gi p1), (gi p2)] (some (gi rr)) (twOf wb ad w0) (twOf wb ad ww) := by
  refine j_start (own := RX2) (by decide +kernel) rfl (Nat.le_of_ble_eq_true rfl) ?_
  intro p e R s m args below meth c C hr hin hw
  unfold t_X2_runs at hf
  show gJ D dA A K p l e R s m args below meth c (gEnd D dA A K below args s (twOf wb ad w0) (some (gi rr)) (twOf wb ad ww)) 3 0 [(0, (ga (some (ad 0)))), (1, (gi p1)), (2, (gi p2))] [] (twOf wb ad w0)
  refine j_aload_n C dX2_runs_0 rfl ?_
  refine j_iload_n C dX2_runs_1 rfl ?_
  refine j_iload_n C dX2_runs_2 rfl ?_
  refine j_iconst (v := (nI 0)) C dX2_runs_3 (by decide) ?_
  replace hf := gB2_e hf
  obtain ⟨x2, w1, ew1, hf⟩ := hf
  refine j_callV (As := [(gi p1), (gi p2), (gi (nI 0))]) (rest := []) (v := (some (gi x2))) C (by omega) (kt_X2_nodePart hinj (by omega) ew1) (tw_cls hinj) rfl q1812 q1814 qs60 q93 q1815 ⟨rfl, hd_X2_nodePart⟩ (by decide) rfl (Nat.le_of_ble_eq_true rfl) dX2_runs_4 ?_
  refine j_iconst (v := (nI 1)) C dX2_runs_7 (by decide) ?_
  refine j_iconst (v := (nI 3)) C dX2_runs_8 (by decide) ?_
  replace hf := gB2_e hf
  obtain ⟨x4, w3, ew3, hf⟩ := hf
  refine j_callS (As := [(gi x2), (gi (nI 1)), (gi (nI 3))]) (rest := []) (v := (some (gi x4))) C (by omega) (kt_X2_isIn hinj (by omega) ew3) q1662 q1663 q93 q1664 hd_X2_isIn (by decide) rfl (Nat.le_of_ble_eq_true rfl) dX2_runs_9 ?_
  replace hf := gBd_x hf
  obtain ⟨k5, ek5, hf⟩ := hf
  have jk5 : ∀ (w6 : TS), k5 w6 = some (rr, ww) → gJ D dA A K p l e R s m args below meth c (gEnd D dA A K below args s (twOf wb ad w0) (some (gi rr)) (twOf wb ad ww)) 3 34 [] [] (twOf wb ad w6) := by
    intro w6 hf
    rw [ek5] at hf
    dsimp only at hf
    refine j_iconst (v := (nI 0)) C dX2_runs_34 (by decide) ?_
    obtain ⟨rfl, rfl⟩ := gSome hf
    exact j_zret C hr (by decide) hw dX2_runs_35
  clear ek5
  refine j_if_eq (tgt := 34) C dX2_runs_12 (by decide) (fun c7 => ?_) (fun c7 => ?_)
  · replace hf := gIf_t hf c7
    refine j_sub (lv' := []) (gL_nil) ?_
    exact jk5 _ hf
  · replace hf := gIf_f hf c7
    refine j_aload_n C dX2_runs_15 rfl ?_
    refine j_get (v := (ga (some (ad 5)))) C fl_X2_22_2 dX2_runs_16 (tw_F hinj rfl) ?_
    refine j_iload_n C dX2_runs_19 rfl ?_
    refine j_iload_n C dX2_runs_20 rfl ?_
    refine j_iconst (v := (nI 0)) C dX2_runs_21 (by decide) ?_
    replace hf := gB2_e hf
    obtain ⟨x9, w8, ew8, hf⟩ := hf
    refine j_callS (As := [(gi p1), (gi p2), (gi (nI 0))]) (rest := [(ga (some (ad 5)))]) (v := (some (gi x9))) C (by omega) (kt_X2_at hinj (by omega) ew8) q1801 q1802 q93 q1803 hd_X2_at (by decide) rfl (Nat.le_of_ble_eq_true rfl) dX2_runs_22 ?_
    replace hf := gB1_e hf
    obtain ⟨x10, ex10, hf⟩ := hf
    refine j_iald C (tw_ld hinj ex10) dX2_runs_25 ?_
    refine j_iconst (v := (nI 1)) C dX2_runs_26 (by decide) ?_
    refine j_icmp_ne (tgt := 34) C dX2_runs_27 (by decide) (fun c11 => ?_) (fun c11 => ?_)
    · replace hf := gIf_f hf c11
      refine j_sub (lv' := []) (gL_nil) ?_
      exact jk5 _ hf
    · replace hf := gIf_t hf c11
      refine j_iconst (v := (nI 1)) C dX2_runs_30 (by decide) ?_
      refine j_goto (tgt := 35) C dX2_runs_31 (by decide) ?_
      obtain ⟨rfl, rfl⟩ := gSome hf
      exact j_zret C hr (by decide) hw dX2_runs_35
def dkwX2_dueAt_7 : List UInt8 := [96, 172]
abbrev dktX2_dueAt_7 : List UInt8 := dkwX2_dueAt_7 ++ []
def dkwX2_dueAt_6 : List UInt8 := [96, 172, 42, 27, 28, 5, 182, 0, 171, 156, 0, 7, 2, 167, 0, 12, 29, 42, 27, 28, 5, 182, 0, 171]
abbrev dktX2_dueAt_6 : List UInt8 := dkwX2_dueAt_6 ++ dktX2_dueAt_7
def dkwX2_dueAt_5 : List UInt8 := [46, 167, 0, 14, 42, 180, 0, 22, 27, 28, 7, 184, 0, 169, 46, 172, 29, 42, 27, 28, 4, 182, 0, 171]
abbrev dktX2_dueAt_5 : List UInt8 := dkwX2_dueAt_5 ++ dktX2_dueAt_6
def dkwX2_dueAt_4 : List UInt8 := [42, 180, 0, 22, 27, 28, 6, 184, 0, 169, 46, 155, 0, 17, 42, 180, 0, 22, 27, 28, 6, 184, 0, 169]
abbrev dktX2_dueAt_4 : List UInt8 := dkwX2_dueAt_4 ++ dktX2_dueAt_5
def dkwX2_dueAt_3 : List UInt8 := [171, 0, 0, 0, 0, 76, 0, 0, 0, 2, 0, 0, 0, 1, 0, 0, 0, 26, 0, 0, 0, 2, 0, 0, 0, 66]
abbrev dktX2_dueAt_3 : List UInt8 := dkwX2_dueAt_3 ++ dktX2_dueAt_4
def dkwX2_dueAt_2 : List UInt8 := [154, 0, 5, 2, 172, 42, 27, 28, 3, 182, 0, 171]
abbrev dktX2_dueAt_2 : List UInt8 := dkwX2_dueAt_2 ++ dktX2_dueAt_3
def dkwX2_dueAt_1 : List UInt8 := [155, 0, 16, 42, 180, 0, 22, 27, 28, 16, 9, 184, 0, 169, 46, 172, 42, 27, 28, 182, 1, 0]
abbrev dktX2_dueAt_1 : List UInt8 := dkwX2_dueAt_1 ++ dktX2_dueAt_2
def dkwX2_dueAt_0 : List UInt8 := [42, 180, 0, 22, 27, 28, 4, 184, 0, 169, 46, 62, 42, 180, 0, 22, 27, 28, 16, 7, 184, 0, 169, 46]
abbrev dktX2_dueAt_0 : List UInt8 := dkwX2_dueAt_0 ++ dktX2_dueAt_1
theorem dksX2_dueAt_0 : cX2_dueAt.data.toList.drop 0 = dktX2_dueAt_0 := by decide +kernel
theorem dksX2_dueAt_1 : cX2_dueAt.data.toList.drop 24 = dktX2_dueAt_1 := dk_seg dksX2_dueAt_0 24 rfl rfl
theorem dksX2_dueAt_2 : cX2_dueAt.data.toList.drop 46 = dktX2_dueAt_2 := dk_seg dksX2_dueAt_1 22 rfl rfl
theorem dksX2_dueAt_3 : cX2_dueAt.data.toList.drop 58 = dktX2_dueAt_3 := dk_seg dksX2_dueAt_2 12 rfl rfl
theorem dksX2_dueAt_4 : cX2_dueAt.data.toList.drop 84 = dktX2_dueAt_4 := dk_seg dksX2_dueAt_3 26 rfl rfl
theorem dksX2_dueAt_5 : cX2_dueAt.data.toList.drop 108 = dktX2_dueAt_5 := dk_seg dksX2_dueAt_4 24 rfl rfl
theorem dksX2_dueAt_6 : cX2_dueAt.data.toList.drop 132 = dktX2_dueAt_6 := dk_seg dksX2_dueAt_5 24 rfl rfl
theorem dksX2_dueAt_7 : cX2_dueAt.data.toList.drop 156 = dktX2_dueAt_7 := dk_seg dksX2_dueAt_6 24 rfl rfl
theorem dX2_dueAt_0 : decode cX2_dueAt 0 = .ok (.aload_n 0, 1) := dk_42 (dk_at dksX2_dueAt_0 0 rfl rfl)
theorem dX2_dueAt_1 : decode cX2_dueAt 1 = .ok (.getfield 22, 3) := dk_180 0 22 (dk_at dksX2_dueAt_0 1 rfl rfl)
theorem dX2_dueAt_4 : decode cX2_dueAt 4 = .ok (.iload_n 1, 1) := dk_27 (dk_at dksX2_dueAt_0 4 rfl rfl)
theorem dX2_dueAt_5 : decode cX2_dueAt 5 = .ok (.iload_n 2, 1) := dk_28 (dk_at dksX2_dueAt_0 5 rfl rfl)
theorem dX2_dueAt_6 : decode cX2_dueAt 6 = .ok (.iconst 1, 1) := dk_4 (dk_at dksX2_dueAt_0 6 rfl rfl)
theorem dX2_dueAt_7 : decode cX2_dueAt 7 = .ok (.invokestatic 169, 3) := dk_184 0 169 (dk_at dksX2_dueAt_0 7 rfl rfl)
theorem dX2_dueAt_10 : decode cX2_dueAt 10 = .ok (.iaload, 1) := dk_46 (dk_at dksX2_dueAt_0 10 rfl rfl)
theorem dX2_dueAt_11 : decode cX2_dueAt 11 = .ok (.istore_n 3, 1) := dk_62 (dk_at dksX2_dueAt_0 11 rfl rfl)
theorem dX2_dueAt_12 : decode cX2_dueAt 12 = .ok (.aload_n 0, 1) := dk_42 (dk_at dksX2_dueAt_0 12 rfl rfl)
theorem dX2_dueAt_13 : decode cX2_dueAt 13 = .ok (.getfield 22, 3) := dk_180 0 22 (dk_at dksX2_dueAt_0 13 rfl rfl)
theorem dX2_dueAt_16 : decode cX2_dueAt 16 = .ok (.iload_n 1, 1) := dk_27 (dk_at dksX2_dueAt_0 16 rfl rfl)
theorem dX2_dueAt_17 : decode cX2_dueAt 17 = .ok (.iload_n 2, 1) := dk_28 (dk_at dksX2_dueAt_0 17 rfl rfl)
theorem dX2_dueAt_18 : decode cX2_dueAt 18 = .ok (.bipush 7, 2) := dk_16 7 (dk_at dksX2_dueAt_0 18 rfl rfl)
theorem dX2_dueAt_20 : decode cX2_dueAt 20 = .ok (.invokestatic 169, 3) := dk_184 0 169 (dk_at dksX2_dueAt_0 20 rfl rfl)
theorem dX2_dueAt_23 : decode cX2_dueAt 23 = .ok (.iaload, 1) := dk_46 (dk_at dksX2_dueAt_0 23 rfl rfl)
theorem dX2_dueAt_24 : decode cX2_dueAt 24 = .ok (.ifCond .lt 16, 3) := dk_155 0 16 (dk_at dksX2_dueAt_1 0 rfl rfl)
theorem dX2_dueAt_27 : decode cX2_dueAt 27 = .ok (.aload_n 0, 1) := dk_42 (dk_at dksX2_dueAt_1 3 rfl rfl)
theorem dX2_dueAt_28 : decode cX2_dueAt 28 = .ok (.getfield 22, 3) := dk_180 0 22 (dk_at dksX2_dueAt_1 4 rfl rfl)
theorem dX2_dueAt_31 : decode cX2_dueAt 31 = .ok (.iload_n 1, 1) := dk_27 (dk_at dksX2_dueAt_1 7 rfl rfl)
theorem dX2_dueAt_32 : decode cX2_dueAt 32 = .ok (.iload_n 2, 1) := dk_28 (dk_at dksX2_dueAt_1 8 rfl rfl)
theorem dX2_dueAt_33 : decode cX2_dueAt 33 = .ok (.bipush 9, 2) := dk_16 9 (dk_at dksX2_dueAt_1 9 rfl rfl)
theorem dX2_dueAt_35 : decode cX2_dueAt 35 = .ok (.invokestatic 169, 3) := dk_184 0 169 (dk_at dksX2_dueAt_1 11 rfl rfl)
theorem dX2_dueAt_38 : decode cX2_dueAt 38 = .ok (.iaload, 1) := dk_46 (dk_at dksX2_dueAt_1 14 rfl rfl)
theorem dX2_dueAt_39 : decode cX2_dueAt 39 = .ok (.ireturn, 1) := dk_172 (dk_at dksX2_dueAt_1 15 rfl rfl)
theorem dX2_dueAt_40 : decode cX2_dueAt 40 = .ok (.aload_n 0, 1) := dk_42 (dk_at dksX2_dueAt_1 16 rfl rfl)
theorem dX2_dueAt_41 : decode cX2_dueAt 41 = .ok (.iload_n 1, 1) := dk_27 (dk_at dksX2_dueAt_1 17 rfl rfl)
theorem dX2_dueAt_42 : decode cX2_dueAt 42 = .ok (.iload_n 2, 1) := dk_28 (dk_at dksX2_dueAt_1 18 rfl rfl)
theorem dX2_dueAt_43 : decode cX2_dueAt 43 = .ok (.invokevirtual 256, 3) := dk_182 1 0 (dk_at dksX2_dueAt_1 19 rfl rfl)
theorem dX2_dueAt_46 : decode cX2_dueAt 46 = .ok (.ifCond .ne 5, 3) := dk_154 0 5 (dk_at dksX2_dueAt_2 0 rfl rfl)
theorem dX2_dueAt_49 : decode cX2_dueAt 49 = .ok (.iconst (-1), 1) := dk_2 (dk_at dksX2_dueAt_2 3 rfl rfl)
theorem dX2_dueAt_50 : decode cX2_dueAt 50 = .ok (.ireturn, 1) := dk_172 (dk_at dksX2_dueAt_2 4 rfl rfl)
theorem dX2_dueAt_51 : decode cX2_dueAt 51 = .ok (.aload_n 0, 1) := dk_42 (dk_at dksX2_dueAt_2 5 rfl rfl)
theorem dX2_dueAt_52 : decode cX2_dueAt 52 = .ok (.iload_n 1, 1) := dk_27 (dk_at dksX2_dueAt_2 6 rfl rfl)
theorem dX2_dueAt_53 : decode cX2_dueAt 53 = .ok (.iload_n 2, 1) := dk_28 (dk_at dksX2_dueAt_2 7 rfl rfl)
theorem dX2_dueAt_54 : decode cX2_dueAt 54 = .ok (.iconst 0, 1) := dk_3 (dk_at dksX2_dueAt_2 8 rfl rfl)
theorem dX2_dueAt_55 : decode cX2_dueAt 55 = .ok (.invokevirtual 171, 3) := dk_182 0 171 (dk_at dksX2_dueAt_2 9 rfl rfl)
theorem dX2_dueAt_58 : decode cX2_dueAt 58 = .ok (.lookupswitch 76 #[(1, 26), (2, 66)], 26) := by decide +kernel
theorem dX2_dueAt_84 : decode cX2_dueAt 84 = .ok (.aload_n 0, 1) := dk_42 (dk_at dksX2_dueAt_4 0 rfl rfl)
theorem dX2_dueAt_85 : decode cX2_dueAt 85 = .ok (.getfield 22, 3) := dk_180 0 22 (dk_at dksX2_dueAt_4 1 rfl rfl)
theorem dX2_dueAt_88 : decode cX2_dueAt 88 = .ok (.iload_n 1, 1) := dk_27 (dk_at dksX2_dueAt_4 4 rfl rfl)
theorem dX2_dueAt_89 : decode cX2_dueAt 89 = .ok (.iload_n 2, 1) := dk_28 (dk_at dksX2_dueAt_4 5 rfl rfl)
theorem dX2_dueAt_90 : decode cX2_dueAt 90 = .ok (.iconst 3, 1) := dk_6 (dk_at dksX2_dueAt_4 6 rfl rfl)
theorem dX2_dueAt_91 : decode cX2_dueAt 91 = .ok (.invokestatic 169, 3) := dk_184 0 169 (dk_at dksX2_dueAt_4 7 rfl rfl)
theorem dX2_dueAt_94 : decode cX2_dueAt 94 = .ok (.iaload, 1) := dk_46 (dk_at dksX2_dueAt_4 10 rfl rfl)
theorem dX2_dueAt_95 : decode cX2_dueAt 95 = .ok (.ifCond .lt 17, 3) := dk_155 0 17 (dk_at dksX2_dueAt_4 11 rfl rfl)
theorem dX2_dueAt_98 : decode cX2_dueAt 98 = .ok (.aload_n 0, 1) := dk_42 (dk_at dksX2_dueAt_4 14 rfl rfl)
theorem dX2_dueAt_99 : decode cX2_dueAt 99 = .ok (.getfield 22, 3) := dk_180 0 22 (dk_at dksX2_dueAt_4 15 rfl rfl)
theorem dX2_dueAt_102 : decode cX2_dueAt 102 = .ok (.iload_n 1, 1) := dk_27 (dk_at dksX2_dueAt_4 18 rfl rfl)
theorem dX2_dueAt_103 : decode cX2_dueAt 103 = .ok (.iload_n 2, 1) := dk_28 (dk_at dksX2_dueAt_4 19 rfl rfl)
theorem dX2_dueAt_104 : decode cX2_dueAt 104 = .ok (.iconst 3, 1) := dk_6 (dk_at dksX2_dueAt_4 20 rfl rfl)
theorem dX2_dueAt_105 : decode cX2_dueAt 105 = .ok (.invokestatic 169, 3) := dk_184 0 169 (dk_at dksX2_dueAt_4 21 rfl rfl)
theorem dX2_dueAt_108 : decode cX2_dueAt 108 = .ok (.iaload, 1) := dk_46 (dk_at dksX2_dueAt_5 0 rfl rfl)
theorem dX2_dueAt_109 : decode cX2_dueAt 109 = .ok (.goto 14, 3) := dk_167 0 14 (dk_at dksX2_dueAt_5 1 rfl rfl)
theorem dX2_dueAt_112 : decode cX2_dueAt 112 = .ok (.aload_n 0, 1) := dk_42 (dk_at dksX2_dueAt_5 4 rfl rfl)
theorem dX2_dueAt_113 : decode cX2_dueAt 113 = .ok (.getfield 22, 3) := dk_180 0 22 (dk_at dksX2_dueAt_5 5 rfl rfl)
theorem dX2_dueAt_116 : decode cX2_dueAt 116 = .ok (.iload_n 1, 1) := dk_27 (dk_at dksX2_dueAt_5 8 rfl rfl)
theorem dX2_dueAt_117 : decode cX2_dueAt 117 = .ok (.iload_n 2, 1) := dk_28 (dk_at dksX2_dueAt_5 9 rfl rfl)
theorem dX2_dueAt_118 : decode cX2_dueAt 118 = .ok (.iconst 4, 1) := dk_7 (dk_at dksX2_dueAt_5 10 rfl rfl)
theorem dX2_dueAt_119 : decode cX2_dueAt 119 = .ok (.invokestatic 169, 3) := dk_184 0 169 (dk_at dksX2_dueAt_5 11 rfl rfl)
theorem dX2_dueAt_122 : decode cX2_dueAt 122 = .ok (.iaload, 1) := dk_46 (dk_at dksX2_dueAt_5 14 rfl rfl)
theorem dX2_dueAt_123 : decode cX2_dueAt 123 = .ok (.ireturn, 1) := dk_172 (dk_at dksX2_dueAt_5 15 rfl rfl)
theorem dX2_dueAt_124 : decode cX2_dueAt 124 = .ok (.iload_n 3, 1) := dk_29 (dk_at dksX2_dueAt_5 16 rfl rfl)
theorem dX2_dueAt_125 : decode cX2_dueAt 125 = .ok (.aload_n 0, 1) := dk_42 (dk_at dksX2_dueAt_5 17 rfl rfl)
theorem dX2_dueAt_126 : decode cX2_dueAt 126 = .ok (.iload_n 1, 1) := dk_27 (dk_at dksX2_dueAt_5 18 rfl rfl)
theorem dX2_dueAt_127 : decode cX2_dueAt 127 = .ok (.iload_n 2, 1) := dk_28 (dk_at dksX2_dueAt_5 19 rfl rfl)
theorem dX2_dueAt_128 : decode cX2_dueAt 128 = .ok (.iconst 1, 1) := dk_4 (dk_at dksX2_dueAt_5 20 rfl rfl)
theorem dX2_dueAt_129 : decode cX2_dueAt 129 = .ok (.invokevirtual 171, 3) := dk_182 0 171 (dk_at dksX2_dueAt_5 21 rfl rfl)
theorem dX2_dueAt_132 : decode cX2_dueAt 132 = .ok (.iadd, 1) := dk_96 (dk_at dksX2_dueAt_6 0 rfl rfl)
theorem dX2_dueAt_133 : decode cX2_dueAt 133 = .ok (.ireturn, 1) := dk_172 (dk_at dksX2_dueAt_6 1 rfl rfl)
theorem dX2_dueAt_134 : decode cX2_dueAt 134 = .ok (.aload_n 0, 1) := dk_42 (dk_at dksX2_dueAt_6 2 rfl rfl)
theorem dX2_dueAt_135 : decode cX2_dueAt 135 = .ok (.iload_n 1, 1) := dk_27 (dk_at dksX2_dueAt_6 3 rfl rfl)
theorem dX2_dueAt_136 : decode cX2_dueAt 136 = .ok (.iload_n 2, 1) := dk_28 (dk_at dksX2_dueAt_6 4 rfl rfl)
theorem dX2_dueAt_137 : decode cX2_dueAt 137 = .ok (.iconst 2, 1) := dk_5 (dk_at dksX2_dueAt_6 5 rfl rfl)
theorem dX2_dueAt_138 : decode cX2_dueAt 138 = .ok (.invokevirtual 171, 3) := dk_182 0 171 (dk_at dksX2_dueAt_6 6 rfl rfl)
theorem dX2_dueAt_141 : decode cX2_dueAt 141 = .ok (.ifCond .ge 7, 3) := dk_156 0 7 (dk_at dksX2_dueAt_6 9 rfl rfl)
theorem dX2_dueAt_144 : decode cX2_dueAt 144 = .ok (.iconst (-1), 1) := dk_2 (dk_at dksX2_dueAt_6 12 rfl rfl)
theorem dX2_dueAt_145 : decode cX2_dueAt 145 = .ok (.goto 12, 3) := dk_167 0 12 (dk_at dksX2_dueAt_6 13 rfl rfl)
theorem dX2_dueAt_148 : decode cX2_dueAt 148 = .ok (.iload_n 3, 1) := dk_29 (dk_at dksX2_dueAt_6 16 rfl rfl)
theorem dX2_dueAt_149 : decode cX2_dueAt 149 = .ok (.aload_n 0, 1) := dk_42 (dk_at dksX2_dueAt_6 17 rfl rfl)
theorem dX2_dueAt_150 : decode cX2_dueAt 150 = .ok (.iload_n 1, 1) := dk_27 (dk_at dksX2_dueAt_6 18 rfl rfl)
theorem dX2_dueAt_151 : decode cX2_dueAt 151 = .ok (.iload_n 2, 1) := dk_28 (dk_at dksX2_dueAt_6 19 rfl rfl)
theorem dX2_dueAt_152 : decode cX2_dueAt 152 = .ok (.iconst 2, 1) := dk_5 (dk_at dksX2_dueAt_6 20 rfl rfl)
theorem dX2_dueAt_153 : decode cX2_dueAt 153 = .ok (.invokevirtual 171, 3) := dk_182 0 171 (dk_at dksX2_dueAt_6 21 rfl rfl)
theorem dX2_dueAt_156 : decode cX2_dueAt 156 = .ok (.iadd, 1) := dk_96 (dk_at dksX2_dueAt_7 0 rfl rfl)
theorem dX2_dueAt_157 : decode cX2_dueAt 157 = .ok (.ireturn, 1) := dk_172 (dk_at dksX2_dueAt_7 1 rfl rfl)
theorem hd_X2_runs : (yX2_runs.cls ≠ "java/lang/invoke/MethodHandle" ∧ yX2_runs.cls ≠ "java/lang/invoke/VarHandle" ∧ (parseMethodDescriptor yX2_runs.desc).map (fun d => d.parameters.length) = some 2) := ⟨by decide +kernel, by decide +kernel, by decide +kernel⟩
def t_X2_dueAt (p1 : Int32) (p2 : Int32) (w0 : TS) : Option (Int32 × TS) := gB2 (t_X2_at p1 p2 (nI 1) w0) fun x2 w1 => gB1 (tLd w1 5 x2) fun x3 => gB2 (t_X2_at p1 p2 (nI 7) w1) fun x5 w4 => gB1 (tLd w4 5 x5) fun x6 => if x6 < 0 then gB2 (t_X2_runs p1 p2 w4) fun x9 w8 => if x9 = 0 then some ((-1), w8) else gB2 (t_X2_nodePart p1 p2 (nI 0) w8) fun x12 w11 => if x12 = (nI 1) then gB2 (t_X2_at p1 p2 (nI 3) w11) fun x14 w13 => gB1 (tLd w13 5 x14) fun x15 => if x15 < 0 then gB2 (t_X2_at p1 p2 (nI 4) w13) fun x18 w17 => gB1 (tLd w17 5 x18) fun x19 => some (x19, w17) else gB2 (t_X2_at p1 p2 (nI 3) w13) fun x21 w20 => gB1 (tLd w20 5 x21) fun x22 => some (x22, w20) else if x12 = (nI 2) then gB2 (t_X2_nodePart p1 p2 (nI 1) w11) fun x24 w23 => some ((x3 + x24), w23) else gB2 (t_X2_nodePart p1 p2 (nI 2) w11) fun x26 w25 => if 0 ≤ x26 then gB2 (t_X2_nodePart p1 p2 (nI 2) w25) fun x29 w28 => some ((x3 + x29), w28) else some ((-1), w25) else gB2 (t_X2_at p1 p2 (nI 9) w4) fun x31 w30 => gB1 (tLd w30 5 x31) fun x32 => some (x32, w30)
set_option maxHeartbeats 4000000 in
set_option maxRecDepth 100000 in
theorem kt_X2_dueAt {D : va_G} {dA : Nat → ClassId} {A : Nat → Prop} {K : Nat → Nat} {l : Launch} {wb : gw} {ad : Nat → Nat} (hinj : tInj ad) {h : Nat} (hh : 4 ≤ h) {p1 : Int32} {p2 : Int32} {w0 ww : TS} {rr : Int32} (hf : t_X2_dueAt p1 p2 w0 = some (rr, ww)) : gMet D dA A K l yX2_dueAt (ws_ yX2_dueAt cX2_dueAt 4 (some .int)) h [(ga (some (ad 0))), (gi p1), (gi p2)] (some (gi rr)) (twOf wb ad w0) (twOf wb ad ww) := by
  refine j_start (own := RX2) (by decide +kernel) rfl (Nat.le_of_ble_eq_true rfl) ?_
  intro p e R s m args below meth c C hr hin hw
  unfold t_X2_dueAt at hf
  show gJ D dA A K p l e R s m args below meth c (gEnd D dA A K below args s (twOf wb ad w0) (some (gi rr)) (twOf wb ad ww)) 4 0 [(0, (ga (some (ad 0)))), (1, (gi p1)), (2, (gi p2))] [] (twOf wb ad w0)
  refine j_aload_n C dX2_dueAt_0 rfl ?_
  refine j_get (v := (ga (some (ad 5)))) C fl_X2_22_2 dX2_dueAt_1 (tw_F hinj rfl) ?_
  refine j_iload_n C dX2_dueAt_4 rfl ?_
  refine j_iload_n C dX2_dueAt_5 rfl ?_
  refine j_iconst (v := (nI 1)) C dX2_dueAt_6 (by decide) ?_
  replace hf := gB2_e hf
  obtain ⟨x2, w1, ew1, hf⟩ := hf
  refine j_callS (As := [(gi p1), (gi p2), (gi (nI 1))]) (rest := [(ga (some (ad 5)))]) (v := (some (gi x2))) C (by omega) (kt_X2_at hinj (by omega) ew1) q1801 q1802 q93 q1803 hd_X2_at (by decide) rfl (Nat.le_of_ble_eq_true rfl) dX2_dueAt_7 ?_
  replace hf := gB1_e hf
  obtain ⟨x3, ex3, hf⟩ := hf
  refine j_iald C (tw_ld hinj ex3) dX2_dueAt_10 ?_
  refine j_istore_n (lv' := [(3, (gi x3)), (0, (ga (some (ad 0)))), (1, (gi p1)), (2, (gi p2))]) C dX2_dueAt_11 (by decide) rfl ?_
  refine j_aload_n C dX2_dueAt_12 rfl ?_
  refine j_get (v := (ga (some (ad 5)))) C fl_X2_22_2 dX2_dueAt_13 (tw_F hinj rfl) ?_
  refine j_iload_n C dX2_dueAt_16 rfl ?_
  refine j_iload_n C dX2_dueAt_17 rfl ?_
  refine j_bipush (v := (nI 7)) C dX2_dueAt_18 (by decide) ?_
  replace hf := gB2_e hf
  obtain ⟨x5, w4, ew4, hf⟩ := hf
  refine j_callS (As := [(gi p1), (gi p2), (gi (nI 7))]) (rest := [(ga (some (ad 5)))]) (v := (some (gi x5))) C (by omega) (kt_X2_at hinj (by omega) ew4) q1801 q1802 q93 q1803 hd_X2_at (by decide) rfl (Nat.le_of_ble_eq_true rfl) dX2_dueAt_20 ?_
  replace hf := gB1_e hf
  obtain ⟨x6, ex6, hf⟩ := hf
  refine j_iald C (tw_ld hinj ex6) dX2_dueAt_23 ?_
  refine j_if_lt (tgt := 40) C dX2_dueAt_24 (by decide) (fun c7 => ?_) (fun c7 => ?_)
  · replace hf := gIf_t hf c7
    refine j_aload_n C dX2_dueAt_40 rfl ?_
    refine j_iload_n C dX2_dueAt_41 rfl ?_
    refine j_iload_n C dX2_dueAt_42 rfl ?_
    replace hf := gB2_e hf
    obtain ⟨x9, w8, ew8, hf⟩ := hf
    refine j_callV (As := [(gi p1), (gi p2)]) (rest := []) (v := (some (gi x9))) C (by omega) (kt_X2_runs hinj (by omega) ew8) (tw_cls hinj) rfl q1938 q1940 qs84 q93 q1941 ⟨rfl, hd_X2_runs⟩ (by decide) rfl (Nat.le_of_ble_eq_true rfl) dX2_dueAt_43 ?_
    refine j_if_ne (tgt := 51) C dX2_dueAt_46 (by decide) (fun c10 => ?_) (fun c10 => ?_)
    · replace hf := gIf_f hf c10
      refine j_aload_n C dX2_dueAt_51 rfl ?_
      refine j_iload_n C dX2_dueAt_52 rfl ?_
      refine j_iload_n C dX2_dueAt_53 rfl ?_
      refine j_iconst (v := (nI 0)) C dX2_dueAt_54 (by decide) ?_
      replace hf := gB2_e hf
      obtain ⟨x12, w11, ew11, hf⟩ := hf
      refine j_callV (As := [(gi p1), (gi p2), (gi (nI 0))]) (rest := []) (v := (some (gi x12))) C (by omega) (kt_X2_nodePart hinj (by omega) ew11) (tw_cls hinj) rfl q1812 q1814 qs60 q93 q1815 ⟨rfl, hd_X2_nodePart⟩ (by decide) rfl (Nat.le_of_ble_eq_true rfl) dX2_dueAt_55 ?_
      by_cases n58_0 : x12 = (nI 1)
      · replace hf := gIf_t hf n58_0
        refine j_lookup (off := 26) (tgt := 84) C dX2_dueAt_58 (by decide) (by rw [n58_0]; decide) (by decide) ?_
        refine j_aload_n C dX2_dueAt_84 rfl ?_
        refine j_get (v := (ga (some (ad 5)))) C fl_X2_22_2 dX2_dueAt_85 (tw_F hinj rfl) ?_
        refine j_iload_n C dX2_dueAt_88 rfl ?_
        refine j_iload_n C dX2_dueAt_89 rfl ?_
        refine j_iconst (v := (nI 3)) C dX2_dueAt_90 (by decide) ?_
        replace hf := gB2_e hf
        obtain ⟨x14, w13, ew13, hf⟩ := hf
        refine j_callS (As := [(gi p1), (gi p2), (gi (nI 3))]) (rest := [(ga (some (ad 5)))]) (v := (some (gi x14))) C (by omega) (kt_X2_at hinj (by omega) ew13) q1801 q1802 q93 q1803 hd_X2_at (by decide) rfl (Nat.le_of_ble_eq_true rfl) dX2_dueAt_91 ?_
        replace hf := gB1_e hf
        obtain ⟨x15, ex15, hf⟩ := hf
        refine j_iald C (tw_ld hinj ex15) dX2_dueAt_94 ?_
        refine j_if_lt (tgt := 112) C dX2_dueAt_95 (by decide) (fun c16 => ?_) (fun c16 => ?_)
        · replace hf := gIf_t hf c16
          refine j_aload_n C dX2_dueAt_112 rfl ?_
          refine j_get (v := (ga (some (ad 5)))) C fl_X2_22_2 dX2_dueAt_113 (tw_F hinj rfl) ?_
          refine j_iload_n C dX2_dueAt_116 rfl ?_
          refine j_iload_n C dX2_dueAt_117 rfl ?_
          refine j_iconst (v := (nI 4)) C dX2_dueAt_118 (by decide) ?_
          replace hf := gB2_e hf
          obtain ⟨x18, w17, ew17, hf⟩ := hf
          refine j_callS (As := [(gi p1), (gi p2), (gi (nI 4))]) (rest := [(ga (some (ad 5)))]) (v := (some (gi x18))) C (by omega) (kt_X2_at hinj (by omega) ew17) q1801 q1802 q93 q1803 hd_X2_at (by decide) rfl (Nat.le_of_ble_eq_true rfl) dX2_dueAt_119 ?_
          replace hf := gB1_e hf
          obtain ⟨x19, ex19, hf⟩ := hf
          refine j_iald C (tw_ld hinj ex19) dX2_dueAt_122 ?_
          obtain ⟨rfl, rfl⟩ := gSome hf
          exact j_iret C hr hw dX2_dueAt_123
        · replace hf := gIf_f hf c16
          refine j_aload_n C dX2_dueAt_98 rfl ?_
          refine j_get (v := (ga (some (ad 5)))) C fl_X2_22_2 dX2_dueAt_99 (tw_F hinj rfl) ?_
          refine j_iload_n C dX2_dueAt_102 rfl ?_
          refine j_iload_n C dX2_dueAt_103 rfl ?_
          refine j_iconst (v := (nI 3)) C dX2_dueAt_104 (by decide) ?_
          replace hf := gB2_e hf
          obtain ⟨x21, w20, ew20, hf⟩ := hf
          refine j_callS (As := [(gi p1), (gi p2), (gi (nI 3))]) (rest := [(ga (some (ad 5)))]) (v := (some (gi x21))) C (by omega) (kt_X2_at hinj (by omega) ew20) q1801 q1802 q93 q1803 hd_X2_at (by decide) rfl (Nat.le_of_ble_eq_true rfl) dX2_dueAt_105 ?_
          replace hf := gB1_e hf
          obtain ⟨x22, ex22, hf⟩ := hf
          refine j_iald C (tw_ld hinj ex22) dX2_dueAt_108 ?_
          refine j_goto (tgt := 123) C dX2_dueAt_109 (by decide) ?_
          obtain ⟨rfl, rfl⟩ := gSome hf
          exact j_iret C hr hw dX2_dueAt_123
      · replace hf := gIf_f hf n58_0
        by_cases n58_1 : x12 = (nI 2)
        · replace hf := gIf_t hf n58_1
          refine j_lookup (off := 66) (tgt := 124) C dX2_dueAt_58 (by decide) (by rw [n58_1]; decide) (by decide) ?_
          refine j_iload_n C dX2_dueAt_124 rfl ?_
          refine j_aload_n C dX2_dueAt_125 rfl ?_
          refine j_iload_n C dX2_dueAt_126 rfl ?_
          refine j_iload_n C dX2_dueAt_127 rfl ?_
          refine j_iconst (v := (nI 1)) C dX2_dueAt_128 (by decide) ?_
          replace hf := gB2_e hf
          obtain ⟨x24, w23, ew23, hf⟩ := hf
          refine j_callV (As := [(gi p1), (gi p2), (gi (nI 1))]) (rest := [(gi x3)]) (v := (some (gi x24))) C (by omega) (kt_X2_nodePart hinj (by omega) ew23) (tw_cls hinj) rfl q1812 q1814 qs60 q93 q1815 ⟨rfl, hd_X2_nodePart⟩ (by decide) rfl (Nat.le_of_ble_eq_true rfl) dX2_dueAt_129 ?_
          refine j_iadd C dX2_dueAt_132 ?_
          obtain ⟨rfl, rfl⟩ := gSome hf
          exact j_iret C hr hw dX2_dueAt_133
        · replace hf := gIf_f hf n58_1
          refine j_lookup (off := 76) (tgt := 134) C dX2_dueAt_58 (by decide) ((lv_osw n58_0 (by decide)).trans ((lv_osw n58_1 (by decide)).trans (rfl))) (by decide) ?_
          refine j_aload_n C dX2_dueAt_134 rfl ?_
          refine j_iload_n C dX2_dueAt_135 rfl ?_
          refine j_iload_n C dX2_dueAt_136 rfl ?_
          refine j_iconst (v := (nI 2)) C dX2_dueAt_137 (by decide) ?_
          replace hf := gB2_e hf
          obtain ⟨x26, w25, ew25, hf⟩ := hf
          refine j_callV (As := [(gi p1), (gi p2), (gi (nI 2))]) (rest := []) (v := (some (gi x26))) C (by omega) (kt_X2_nodePart hinj (by omega) ew25) (tw_cls hinj) rfl q1812 q1814 qs60 q93 q1815 ⟨rfl, hd_X2_nodePart⟩ (by decide) rfl (Nat.le_of_ble_eq_true rfl) dX2_dueAt_138 ?_
          refine j_if_ge (tgt := 148) C dX2_dueAt_141 (by decide) (fun c27 => ?_) (fun c27 => ?_)
          · replace hf := gIf_t hf c27
            refine j_iload_n C dX2_dueAt_148 rfl ?_
            refine j_aload_n C dX2_dueAt_149 rfl ?_
            refine j_iload_n C dX2_dueAt_150 rfl ?_
            refine j_iload_n C dX2_dueAt_151 rfl ?_
            refine j_iconst (v := (nI 2)) C dX2_dueAt_152 (by decide) ?_
            replace hf := gB2_e hf
            obtain ⟨x29, w28, ew28, hf⟩ := hf
            refine j_callV (As := [(gi p1), (gi p2), (gi (nI 2))]) (rest := [(gi x3)]) (v := (some (gi x29))) C (by omega) (kt_X2_nodePart hinj (by omega) ew28) (tw_cls hinj) rfl q1812 q1814 qs60 q93 q1815 ⟨rfl, hd_X2_nodePart⟩ (by decide) rfl (Nat.le_of_ble_eq_true rfl) dX2_dueAt_153 ?_
            refine j_iadd C dX2_dueAt_156 ?_
            obtain ⟨rfl, rfl⟩ := gSome hf
            exact j_iret C hr hw dX2_dueAt_157
          · replace hf := gIf_f hf c27
            refine j_iconst (v := (-1)) C dX2_dueAt_144 (by decide) ?_
            refine j_goto (tgt := 157) C dX2_dueAt_145 (by decide) ?_
            obtain ⟨rfl, rfl⟩ := gSome hf
            exact j_iret C hr hw dX2_dueAt_157
    · replace hf := gIf_t hf c10
      refine j_iconst (v := (-1)) C dX2_dueAt_49 (by decide) ?_
      obtain ⟨rfl, rfl⟩ := gSome hf
      exact j_iret C hr hw dX2_dueAt_50
  · replace hf := gIf_f hf c7
    refine j_aload_n C dX2_dueAt_27 rfl ?_
    refine j_get (v := (ga (some (ad 5)))) C fl_X2_22_2 dX2_dueAt_28 (tw_F hinj rfl) ?_
    refine j_iload_n C dX2_dueAt_31 rfl ?_
    refine j_iload_n C dX2_dueAt_32 rfl ?_
    refine j_bipush (v := (nI 9)) C dX2_dueAt_33 (by decide) ?_
    replace hf := gB2_e hf
    obtain ⟨x31, w30, ew30, hf⟩ := hf
    refine j_callS (As := [(gi p1), (gi p2), (gi (nI 9))]) (rest := [(ga (some (ad 5)))]) (v := (some (gi x31))) C (by omega) (kt_X2_at hinj (by omega) ew30) q1801 q1802 q93 q1803 hd_X2_at (by decide) rfl (Nat.le_of_ble_eq_true rfl) dX2_dueAt_35 ?_
    replace hf := gB1_e hf
    obtain ⟨x32, ex32, hf⟩ := hf
    refine j_iald C (tw_ld hinj ex32) dX2_dueAt_38 ?_
    obtain ⟨rfl, rfl⟩ := gSome hf
    exact j_iret C hr hw dX2_dueAt_39
def dkwX2_replayed_6 : List UInt8 := [172, 42, 27, 3, 182, 1, 10, 42, 27, 8, 182, 1, 10, 96, 172, 42, 27, 4, 182, 1, 10, 172]
abbrev dktX2_replayed_6 : List UInt8 := dkwX2_replayed_6 ++ []
def dkwX2_replayed_5 : List UInt8 := [29, 172, 42, 27, 5, 182, 1, 10, 172, 42, 27, 16, 6, 182, 1, 10, 172, 42, 27, 16, 7, 182, 1, 10]
abbrev dktX2_replayed_5 : List UInt8 := dkwX2_replayed_5 ++ dktX2_replayed_6
def dkwX2_replayed_4 : List UInt8 := [170, 0, 0, 0, 72, 0, 0, 0, 0, 0, 0, 0, 4, 0, 0, 0, 33, 0, 0, 0, 35, 0, 0, 0, 42, 0, 0, 0, 50, 0, 0, 0, 58]
abbrev dktX2_replayed_4 : List UInt8 := dkwX2_replayed_4 ++ dktX2_replayed_5
def dkwX2_replayed_3 : List UInt8 := [184, 0, 163, 46, 167, 0, 4, 29, 62, 132, 4, 1, 167, 255, 197, 28]
abbrev dktX2_replayed_3 : List UInt8 := dkwX2_replayed_3 ++ dktX2_replayed_4
def dkwX2_replayed_2 : List UInt8 := [184, 0, 163, 46, 16, 11, 160, 0, 24, 42, 180, 0, 22, 27, 16, 22, 6, 21, 4, 104, 96, 5, 96]
abbrev dktX2_replayed_2 : List UInt8 := dkwX2_replayed_2 ++ dktX2_replayed_3
def dkwX2_replayed_1 : List UInt8 := [21, 4, 42, 27, 182, 0, 253, 162, 0, 55, 42, 180, 0, 22, 27, 16, 22, 6, 21, 4, 104, 96, 4, 96]
abbrev dktX2_replayed_1 : List UInt8 := dkwX2_replayed_1 ++ dktX2_replayed_2
def dkwX2_replayed_0 : List UInt8 := [42, 27, 182, 0, 243, 153, 0, 12, 28, 3, 8, 184, 0, 38, 154, 0, 5, 2, 172, 3, 62, 3, 54, 4]
abbrev dktX2_replayed_0 : List UInt8 := dkwX2_replayed_0 ++ dktX2_replayed_1
theorem dksX2_replayed_0 : cX2_replayed.data.toList.drop 0 = dktX2_replayed_0 := by decide +kernel
theorem dksX2_replayed_1 : cX2_replayed.data.toList.drop 24 = dktX2_replayed_1 := dk_seg dksX2_replayed_0 24 rfl rfl
theorem dksX2_replayed_2 : cX2_replayed.data.toList.drop 48 = dktX2_replayed_2 := dk_seg dksX2_replayed_1 24 rfl rfl
theorem dksX2_replayed_3 : cX2_replayed.data.toList.drop 71 = dktX2_replayed_3 := dk_seg dksX2_replayed_2 23 rfl rfl
theorem dksX2_replayed_4 : cX2_replayed.data.toList.drop 87 = dktX2_replayed_4 := dk_seg dksX2_replayed_3 16 rfl rfl
theorem dksX2_replayed_5 : cX2_replayed.data.toList.drop 120 = dktX2_replayed_5 := dk_seg dksX2_replayed_4 33 rfl rfl
theorem dksX2_replayed_6 : cX2_replayed.data.toList.drop 144 = dktX2_replayed_6 := dk_seg dksX2_replayed_5 24 rfl rfl
theorem dX2_replayed_0 : decode cX2_replayed 0 = .ok (.aload_n 0, 1) := dk_42 (dk_at dksX2_replayed_0 0 rfl rfl)
theorem dX2_replayed_1 : decode cX2_replayed 1 = .ok (.iload_n 1, 1) := dk_27 (dk_at dksX2_replayed_0 1 rfl rfl)
theorem dX2_replayed_2 : decode cX2_replayed 2 = .ok (.invokevirtual 243, 3) := dk_182 0 243 (dk_at dksX2_replayed_0 2 rfl rfl)
theorem dX2_replayed_5 : decode cX2_replayed 5 = .ok (.ifCond .eq 12, 3) := dk_153 0 12 (dk_at dksX2_replayed_0 5 rfl rfl)
theorem dX2_replayed_8 : decode cX2_replayed 8 = .ok (.iload_n 2, 1) := dk_28 (dk_at dksX2_replayed_0 8 rfl rfl)
theorem dX2_replayed_9 : decode cX2_replayed 9 = .ok (.iconst 0, 1) := dk_3 (dk_at dksX2_replayed_0 9 rfl rfl)
theorem dX2_replayed_10 : decode cX2_replayed 10 = .ok (.iconst 5, 1) := dk_8 (dk_at dksX2_replayed_0 10 rfl rfl)
theorem dX2_replayed_11 : decode cX2_replayed 11 = .ok (.invokestatic 38, 3) := dk_184 0 38 (dk_at dksX2_replayed_0 11 rfl rfl)
theorem dX2_replayed_14 : decode cX2_replayed 14 = .ok (.ifCond .ne 5, 3) := dk_154 0 5 (dk_at dksX2_replayed_0 14 rfl rfl)
theorem dX2_replayed_17 : decode cX2_replayed 17 = .ok (.iconst (-1), 1) := dk_2 (dk_at dksX2_replayed_0 17 rfl rfl)
theorem dX2_replayed_18 : decode cX2_replayed 18 = .ok (.ireturn, 1) := dk_172 (dk_at dksX2_replayed_0 18 rfl rfl)
theorem dX2_replayed_19 : decode cX2_replayed 19 = .ok (.iconst 0, 1) := dk_3 (dk_at dksX2_replayed_0 19 rfl rfl)
theorem dX2_replayed_20 : decode cX2_replayed 20 = .ok (.istore_n 3, 1) := dk_62 (dk_at dksX2_replayed_0 20 rfl rfl)
theorem dX2_replayed_21 : decode cX2_replayed 21 = .ok (.iconst 0, 1) := dk_3 (dk_at dksX2_replayed_0 21 rfl rfl)
theorem dX2_replayed_22 : decode cX2_replayed 22 = .ok (.istore 4, 2) := dk_54 4 (dk_at dksX2_replayed_0 22 rfl rfl)
theorem dX2_replayed_24 : decode cX2_replayed 24 = .ok (.iload 4, 2) := dk_21 4 (dk_at dksX2_replayed_1 0 rfl rfl)
theorem dX2_replayed_26 : decode cX2_replayed 26 = .ok (.aload_n 0, 1) := dk_42 (dk_at dksX2_replayed_1 2 rfl rfl)
theorem dX2_replayed_27 : decode cX2_replayed 27 = .ok (.iload_n 1, 1) := dk_27 (dk_at dksX2_replayed_1 3 rfl rfl)
theorem dX2_replayed_28 : decode cX2_replayed 28 = .ok (.invokevirtual 253, 3) := dk_182 0 253 (dk_at dksX2_replayed_1 4 rfl rfl)
theorem dX2_replayed_31 : decode cX2_replayed 31 = .ok (.if_icmp .ge 55, 3) := dk_162 0 55 (dk_at dksX2_replayed_1 7 rfl rfl)
theorem dX2_replayed_34 : decode cX2_replayed 34 = .ok (.aload_n 0, 1) := dk_42 (dk_at dksX2_replayed_1 10 rfl rfl)
theorem dX2_replayed_35 : decode cX2_replayed 35 = .ok (.getfield 22, 3) := dk_180 0 22 (dk_at dksX2_replayed_1 11 rfl rfl)
theorem dX2_replayed_38 : decode cX2_replayed 38 = .ok (.iload_n 1, 1) := dk_27 (dk_at dksX2_replayed_1 14 rfl rfl)
theorem dX2_replayed_39 : decode cX2_replayed 39 = .ok (.bipush 22, 2) := dk_16 22 (dk_at dksX2_replayed_1 15 rfl rfl)
theorem dX2_replayed_41 : decode cX2_replayed 41 = .ok (.iconst 3, 1) := dk_6 (dk_at dksX2_replayed_1 17 rfl rfl)
theorem dX2_replayed_42 : decode cX2_replayed 42 = .ok (.iload 4, 2) := dk_21 4 (dk_at dksX2_replayed_1 18 rfl rfl)
theorem dX2_replayed_44 : decode cX2_replayed 44 = .ok (.imul, 1) := dk_104 (dk_at dksX2_replayed_1 20 rfl rfl)
theorem dX2_replayed_45 : decode cX2_replayed 45 = .ok (.iadd, 1) := dk_96 (dk_at dksX2_replayed_1 21 rfl rfl)
theorem dX2_replayed_46 : decode cX2_replayed 46 = .ok (.iconst 1, 1) := dk_4 (dk_at dksX2_replayed_1 22 rfl rfl)
theorem dX2_replayed_47 : decode cX2_replayed 47 = .ok (.iadd, 1) := dk_96 (dk_at dksX2_replayed_1 23 rfl rfl)
theorem dX2_replayed_48 : decode cX2_replayed 48 = .ok (.invokestatic 163, 3) := dk_184 0 163 (dk_at dksX2_replayed_2 0 rfl rfl)
theorem dX2_replayed_51 : decode cX2_replayed 51 = .ok (.iaload, 1) := dk_46 (dk_at dksX2_replayed_2 3 rfl rfl)
theorem dX2_replayed_52 : decode cX2_replayed 52 = .ok (.bipush 11, 2) := dk_16 11 (dk_at dksX2_replayed_2 4 rfl rfl)
theorem dX2_replayed_54 : decode cX2_replayed 54 = .ok (.if_icmp .ne 24, 3) := dk_160 0 24 (dk_at dksX2_replayed_2 6 rfl rfl)
theorem dX2_replayed_57 : decode cX2_replayed 57 = .ok (.aload_n 0, 1) := dk_42 (dk_at dksX2_replayed_2 9 rfl rfl)
theorem dX2_replayed_58 : decode cX2_replayed 58 = .ok (.getfield 22, 3) := dk_180 0 22 (dk_at dksX2_replayed_2 10 rfl rfl)
theorem dX2_replayed_61 : decode cX2_replayed 61 = .ok (.iload_n 1, 1) := dk_27 (dk_at dksX2_replayed_2 13 rfl rfl)
theorem dX2_replayed_62 : decode cX2_replayed 62 = .ok (.bipush 22, 2) := dk_16 22 (dk_at dksX2_replayed_2 14 rfl rfl)
theorem dX2_replayed_64 : decode cX2_replayed 64 = .ok (.iconst 3, 1) := dk_6 (dk_at dksX2_replayed_2 16 rfl rfl)
theorem dX2_replayed_65 : decode cX2_replayed 65 = .ok (.iload 4, 2) := dk_21 4 (dk_at dksX2_replayed_2 17 rfl rfl)
theorem dX2_replayed_67 : decode cX2_replayed 67 = .ok (.imul, 1) := dk_104 (dk_at dksX2_replayed_2 19 rfl rfl)
theorem dX2_replayed_68 : decode cX2_replayed 68 = .ok (.iadd, 1) := dk_96 (dk_at dksX2_replayed_2 20 rfl rfl)
theorem dX2_replayed_69 : decode cX2_replayed 69 = .ok (.iconst 2, 1) := dk_5 (dk_at dksX2_replayed_2 21 rfl rfl)
theorem dX2_replayed_70 : decode cX2_replayed 70 = .ok (.iadd, 1) := dk_96 (dk_at dksX2_replayed_2 22 rfl rfl)
theorem dX2_replayed_71 : decode cX2_replayed 71 = .ok (.invokestatic 163, 3) := dk_184 0 163 (dk_at dksX2_replayed_3 0 rfl rfl)
theorem dX2_replayed_74 : decode cX2_replayed 74 = .ok (.iaload, 1) := dk_46 (dk_at dksX2_replayed_3 3 rfl rfl)
theorem dX2_replayed_75 : decode cX2_replayed 75 = .ok (.goto 4, 3) := dk_167 0 4 (dk_at dksX2_replayed_3 4 rfl rfl)
theorem dX2_replayed_78 : decode cX2_replayed 78 = .ok (.iload_n 3, 1) := dk_29 (dk_at dksX2_replayed_3 7 rfl rfl)
theorem dX2_replayed_79 : decode cX2_replayed 79 = .ok (.istore_n 3, 1) := dk_62 (dk_at dksX2_replayed_3 8 rfl rfl)
theorem dX2_replayed_80 : decode cX2_replayed 80 = .ok (.iinc 4 1, 3) := dk_132 4 1 (dk_at dksX2_replayed_3 9 rfl rfl)
theorem dX2_replayed_83 : decode cX2_replayed 83 = .ok (.goto (-59), 3) := dk_167 255 197 (dk_at dksX2_replayed_3 12 rfl rfl)
theorem dX2_replayed_86 : decode cX2_replayed 86 = .ok (.iload_n 2, 1) := dk_28 (dk_at dksX2_replayed_3 15 rfl rfl)
theorem dX2_replayed_87 : decode cX2_replayed 87 = .ok (.tableswitch 72 0 4 #[33, 35, 42, 50, 58], 33) := by decide +kernel
theorem dX2_replayed_120 : decode cX2_replayed 120 = .ok (.iload_n 3, 1) := dk_29 (dk_at dksX2_replayed_5 0 rfl rfl)
theorem dX2_replayed_121 : decode cX2_replayed 121 = .ok (.ireturn, 1) := dk_172 (dk_at dksX2_replayed_5 1 rfl rfl)
theorem dX2_replayed_122 : decode cX2_replayed 122 = .ok (.aload_n 0, 1) := dk_42 (dk_at dksX2_replayed_5 2 rfl rfl)
theorem dX2_replayed_123 : decode cX2_replayed 123 = .ok (.iload_n 1, 1) := dk_27 (dk_at dksX2_replayed_5 3 rfl rfl)
theorem dX2_replayed_124 : decode cX2_replayed 124 = .ok (.iconst 2, 1) := dk_5 (dk_at dksX2_replayed_5 4 rfl rfl)
theorem dX2_replayed_125 : decode cX2_replayed 125 = .ok (.invokevirtual 266, 3) := dk_182 1 10 (dk_at dksX2_replayed_5 5 rfl rfl)
theorem dX2_replayed_128 : decode cX2_replayed 128 = .ok (.ireturn, 1) := dk_172 (dk_at dksX2_replayed_5 8 rfl rfl)
theorem dX2_replayed_129 : decode cX2_replayed 129 = .ok (.aload_n 0, 1) := dk_42 (dk_at dksX2_replayed_5 9 rfl rfl)
theorem dX2_replayed_130 : decode cX2_replayed 130 = .ok (.iload_n 1, 1) := dk_27 (dk_at dksX2_replayed_5 10 rfl rfl)
theorem dX2_replayed_131 : decode cX2_replayed 131 = .ok (.bipush 6, 2) := dk_16 6 (dk_at dksX2_replayed_5 11 rfl rfl)
theorem dX2_replayed_133 : decode cX2_replayed 133 = .ok (.invokevirtual 266, 3) := dk_182 1 10 (dk_at dksX2_replayed_5 13 rfl rfl)
theorem dX2_replayed_136 : decode cX2_replayed 136 = .ok (.ireturn, 1) := dk_172 (dk_at dksX2_replayed_5 16 rfl rfl)
theorem dX2_replayed_137 : decode cX2_replayed 137 = .ok (.aload_n 0, 1) := dk_42 (dk_at dksX2_replayed_5 17 rfl rfl)
theorem dX2_replayed_138 : decode cX2_replayed 138 = .ok (.iload_n 1, 1) := dk_27 (dk_at dksX2_replayed_5 18 rfl rfl)
theorem dX2_replayed_139 : decode cX2_replayed 139 = .ok (.bipush 7, 2) := dk_16 7 (dk_at dksX2_replayed_5 19 rfl rfl)
theorem dX2_replayed_141 : decode cX2_replayed 141 = .ok (.invokevirtual 266, 3) := dk_182 1 10 (dk_at dksX2_replayed_5 21 rfl rfl)
theorem dX2_replayed_144 : decode cX2_replayed 144 = .ok (.ireturn, 1) := dk_172 (dk_at dksX2_replayed_6 0 rfl rfl)
theorem dX2_replayed_145 : decode cX2_replayed 145 = .ok (.aload_n 0, 1) := dk_42 (dk_at dksX2_replayed_6 1 rfl rfl)
theorem dX2_replayed_146 : decode cX2_replayed 146 = .ok (.iload_n 1, 1) := dk_27 (dk_at dksX2_replayed_6 2 rfl rfl)
theorem dX2_replayed_147 : decode cX2_replayed 147 = .ok (.iconst 0, 1) := dk_3 (dk_at dksX2_replayed_6 3 rfl rfl)
theorem dX2_replayed_148 : decode cX2_replayed 148 = .ok (.invokevirtual 266, 3) := dk_182 1 10 (dk_at dksX2_replayed_6 4 rfl rfl)
theorem dX2_replayed_151 : decode cX2_replayed 151 = .ok (.aload_n 0, 1) := dk_42 (dk_at dksX2_replayed_6 7 rfl rfl)
theorem dX2_replayed_152 : decode cX2_replayed 152 = .ok (.iload_n 1, 1) := dk_27 (dk_at dksX2_replayed_6 8 rfl rfl)
theorem dX2_replayed_153 : decode cX2_replayed 153 = .ok (.iconst 5, 1) := dk_8 (dk_at dksX2_replayed_6 9 rfl rfl)
theorem dX2_replayed_154 : decode cX2_replayed 154 = .ok (.invokevirtual 266, 3) := dk_182 1 10 (dk_at dksX2_replayed_6 10 rfl rfl)
theorem dX2_replayed_157 : decode cX2_replayed 157 = .ok (.iadd, 1) := dk_96 (dk_at dksX2_replayed_6 13 rfl rfl)
theorem dX2_replayed_158 : decode cX2_replayed 158 = .ok (.ireturn, 1) := dk_172 (dk_at dksX2_replayed_6 14 rfl rfl)
theorem dX2_replayed_159 : decode cX2_replayed 159 = .ok (.aload_n 0, 1) := dk_42 (dk_at dksX2_replayed_6 15 rfl rfl)
theorem dX2_replayed_160 : decode cX2_replayed 160 = .ok (.iload_n 1, 1) := dk_27 (dk_at dksX2_replayed_6 16 rfl rfl)
theorem dX2_replayed_161 : decode cX2_replayed 161 = .ok (.iconst 1, 1) := dk_4 (dk_at dksX2_replayed_6 17 rfl rfl)
theorem dX2_replayed_162 : decode cX2_replayed 162 = .ok (.invokevirtual 266, 3) := dk_182 1 10 (dk_at dksX2_replayed_6 18 rfl rfl)
theorem dX2_replayed_165 : decode cX2_replayed 165 = .ok (.ireturn, 1) := dk_172 (dk_at dksX2_replayed_6 21 rfl rfl)
theorem hd_X2_entriesOf : (yX2_entriesOf.cls ≠ "java/lang/invoke/MethodHandle" ∧ yX2_entriesOf.cls ≠ "java/lang/invoke/VarHandle" ∧ (parseMethodDescriptor yX2_entriesOf.desc).map (fun d => d.parameters.length) = some 2) := ⟨by decide +kernel, by decide +kernel, by decide +kernel⟩
def t_X2_replayed (p1 : Int32) (p2 : Int32) (w0 : TS) : Option (Int32 × TS) := gB2 (t_X2_isInstance p1 w0) fun x2 w1 => if x2 = 0 then some ((-1), w1) else gB2 (t_X2_isIn p2 (nI 0) (nI 5) w1) fun x5 w4 => if x5 = 0 then some ((-1), w4) else gL4 (fun k12 (x8 : Int32) (x9 : Int32) (x10 : Int32) (x11 : Int32) (w7 : TS) => gB2 (t_X2_keptEntries x8 w7) fun x14 w13 => if x14 ≤ x11 then if x9 = (nI 0) then some (x10, w13) else if x9 = (nI 1) then gB2 (t_X2_entriesOf x8 (nI 2) w13) fun x17 w16 => some (x17, w16) else if x9 = (nI 2) then gB2 (t_X2_entriesOf x8 (nI 6) w13) fun x19 w18 => some (x19, w18) else if x9 = (nI 3) then gB2 (t_X2_entriesOf x8 (nI 7) w13) fun x21 w20 => some (x21, w20) else if x9 = (nI 4) then gB2 (t_X2_entriesOf x8 (nI 0) w13) fun x23 w22 => gB2 (t_X2_entriesOf x8 (nI 5) w22) fun x25 w24 => some ((x23 + x25), w24) else gB2 (t_X2_entriesOf x8 (nI 1) w13) fun x27 w26 => some (x27, w26) else gB2 (t_X2_of x8 (((nI 22) + ((nI 3) * x11)) + (nI 1)) w13) fun x29 w28 => gB1 (tLd w28 5 x29) fun x30 => gBd (fun (x33 : Int32) (x34 : Int32) (x35 : Int32) (x36 : Int32) (w32 : TS) => gBd (x35 + (nI 1)) fun x37 => k12 x33 x34 x36 x37 w32) fun k31 => if x30 = (nI 11) then gB2 (t_X2_of x8 (((nI 22) + ((nI 3) * x11)) + (nI 2)) w28) fun x40 w39 => gB1 (tLd w39 5 x40) fun x41 => k31 x8 x9 x11 x41 w39 else k31 x8 x9 x11 x10 w28) 20000 p1 p2 (nI 0) (nI 0) w4
set_option maxHeartbeats 4000000 in
set_option maxRecDepth 100000 in
theorem kt_X2_replayed {D : va_G} {dA : Nat → ClassId} {A : Nat → Prop} {K : Nat → Nat} {l : Launch} {wb : gw} {ad : Nat → Nat} (hinj : tInj ad) {h : Nat} (hh : 3 ≤ h) {p1 : Int32} {p2 : Int32} {w0 ww : TS} {rr : Int32} (hf : t_X2_replayed p1 p2 w0 = some (rr, ww)) : gMet D dA A K l yX2_replayed (ws_ yX2_replayed cX2_replayed 5 (some .int)) h [(ga (some (ad 0))), (gi p1), (gi p2)] (some (gi rr)) (twOf wb ad w0) (twOf wb ad ww) := by
  refine j_start (own := RX2) (by decide +kernel) rfl (Nat.le_of_ble_eq_true rfl) ?_
  intro p e R s m args below meth c C hr hin hw
  unfold t_X2_replayed at hf
  show gJ D dA A K p l e R s m args below meth c (gEnd D dA A K below args s (twOf wb ad w0) (some (gi rr)) (twOf wb ad ww)) 5 0 [(0, (ga (some (ad 0)))), (1, (gi p1)), (2, (gi p2))] [] (twOf wb ad w0)
  refine j_aload_n C dX2_replayed_0 rfl ?_
  refine j_iload_n C dX2_replayed_1 rfl ?_
  replace hf := gB2_e hf
  obtain ⟨x2, w1, ew1, hf⟩ := hf
  refine j_callV (As := [(gi p1)]) (rest := []) (v := (some (gi x2))) C (by omega) (kt_X2_isInstance hinj (by omega) ew1) (tw_cls hinj) rfl q1900 q1902 qs81 q93 q1903 ⟨rfl, hd_X2_isInstance⟩ (by decide) rfl (Nat.le_of_ble_eq_true rfl) dX2_replayed_2 ?_
  refine j_if_eq (tgt := 17) C dX2_replayed_5 (by decide) (fun c3 => ?_) (fun c3 => ?_)
  · replace hf := gIf_t hf c3
    refine j_iconst (v := (-1)) C dX2_replayed_17 (by decide) ?_
    obtain ⟨rfl, rfl⟩ := gSome hf
    exact j_iret C hr hw dX2_replayed_18
  · replace hf := gIf_f hf c3
    refine j_iload_n C dX2_replayed_8 rfl ?_
    refine j_iconst (v := (nI 0)) C dX2_replayed_9 (by decide) ?_
    refine j_iconst (v := (nI 5)) C dX2_replayed_10 (by decide) ?_
    replace hf := gB2_e hf
    obtain ⟨x5, w4, ew4, hf⟩ := hf
    refine j_callS (As := [(gi p2), (gi (nI 0)), (gi (nI 5))]) (rest := []) (v := (some (gi x5))) C (by omega) (kt_X2_isIn hinj (by omega) ew4) q1662 q1663 q93 q1664 hd_X2_isIn (by decide) rfl (Nat.le_of_ble_eq_true rfl) dX2_replayed_11 ?_
    refine j_if_ne (tgt := 19) C dX2_replayed_14 (by decide) (fun c6 => ?_) (fun c6 => ?_)
    · replace hf := gIf_f hf c6
      refine j_iconst (v := (nI 0)) C dX2_replayed_19 (by decide) ?_
      refine j_istore_n (lv' := [(3, (gi (nI 0))), (0, (ga (some (ad 0)))), (1, (gi p1)), (2, (gi p2))]) C dX2_replayed_20 (by decide) rfl ?_
      refine j_iconst (v := (nI 0)) C dX2_replayed_21 (by decide) ?_
      refine j_istore (lv' := [(4, (gi (nI 0))), (3, (gi (nI 0))), (0, (ga (some (ad 0)))), (1, (gi p1)), (2, (gi p2))]) C dX2_replayed_22 (by decide) rfl ?_
      refine j_sub (lv' := [(0, (ga (some (ad 0)))), (1, (gi p1)), (2, (gi p2)), (3, (gi (nI 0))), (4, (gi (nI 0)))]) (gL_cons rfl (gL_cons rfl (gL_cons rfl (gL_cons rfl (gL_cons rfl (gL_nil)))))) ?_
      refine gL4_e (fun (x8 : Int32) (x9 : Int32) (x10 : Int32) (x11 : Int32) (w7 : TS) => gJ D dA A K p l e R s m args below meth c (gEnd D dA A K below args s (twOf wb ad w0) (some (gi rr)) (twOf wb ad ww)) 5 24 [(0, (ga (some (ad 0)))), (1, (gi x8)), (2, (gi x9)), (3, (gi x10)), (4, (gi x11))] [] (twOf wb ad w7)) ?_ _ _ _ _ _ _ hf
      intro k12 jk12 x8 x9 x10 x11 w7 hf
      refine j_iload C dX2_replayed_24 rfl ?_
      refine j_aload_n C dX2_replayed_26 rfl ?_
      refine j_iload_n C dX2_replayed_27 rfl ?_
      replace hf := gB2_e hf
      obtain ⟨x14, w13, ew13, hf⟩ := hf
      refine j_callV (As := [(gi x8)]) (rest := [(gi x11)]) (v := (some (gi x14))) C (by omega) (kt_X2_keptEntries hinj (by omega) ew13) (tw_cls hinj) rfl q1929 q1931 qs83 q93 q1932 ⟨rfl, hd_X2_keptEntries⟩ (by decide) rfl (Nat.le_of_ble_eq_true rfl) dX2_replayed_28 ?_
      refine j_icmp_ge (tgt := 86) C dX2_replayed_31 (by decide) (fun c15 => ?_) (fun c15 => ?_)
      · replace hf := gIf_t hf c15
        refine j_iload_n C dX2_replayed_86 rfl ?_
        by_cases n87_0 : x9 = (nI 0)
        · replace hf := gIf_t hf n87_0
          refine j_tableIn (off := 33) (tgt := 120) C dX2_replayed_87 (by rw [n87_0]; decide) (by rw [n87_0]; decide) (by rw [n87_0]; decide) (by decide) ?_
          refine j_iload_n C dX2_replayed_120 rfl ?_
          obtain ⟨rfl, rfl⟩ := gSome hf
          exact j_iret C hr hw dX2_replayed_121
        · replace hf := gIf_f hf n87_0
          by_cases n87_1 : x9 = (nI 1)
          · replace hf := gIf_t hf n87_1
            refine j_tableIn (off := 35) (tgt := 122) C dX2_replayed_87 (by rw [n87_1]; decide) (by rw [n87_1]; decide) (by rw [n87_1]; decide) (by decide) ?_
            refine j_aload_n C dX2_replayed_122 rfl ?_
            refine j_iload_n C dX2_replayed_123 rfl ?_
            refine j_iconst (v := (nI 2)) C dX2_replayed_124 (by decide) ?_
            replace hf := gB2_e hf
            obtain ⟨x17, w16, ew16, hf⟩ := hf
            refine j_callV (As := [(gi x8), (gi (nI 2))]) (rest := []) (v := (some (gi x17))) C (by omega) (kt_X2_entriesOf hinj (by omega) ew16) (tw_cls hinj) rfl q1961 q1963 qs86 q93 q1964 ⟨rfl, hd_X2_entriesOf⟩ (by decide) rfl (Nat.le_of_ble_eq_true rfl) dX2_replayed_125 ?_
            obtain ⟨rfl, rfl⟩ := gSome hf
            exact j_iret C hr hw dX2_replayed_128
          · replace hf := gIf_f hf n87_1
            by_cases n87_2 : x9 = (nI 2)
            · replace hf := gIf_t hf n87_2
              refine j_tableIn (off := 42) (tgt := 129) C dX2_replayed_87 (by rw [n87_2]; decide) (by rw [n87_2]; decide) (by rw [n87_2]; decide) (by decide) ?_
              refine j_aload_n C dX2_replayed_129 rfl ?_
              refine j_iload_n C dX2_replayed_130 rfl ?_
              refine j_bipush (v := (nI 6)) C dX2_replayed_131 (by decide) ?_
              replace hf := gB2_e hf
              obtain ⟨x19, w18, ew18, hf⟩ := hf
              refine j_callV (As := [(gi x8), (gi (nI 6))]) (rest := []) (v := (some (gi x19))) C (by omega) (kt_X2_entriesOf hinj (by omega) ew18) (tw_cls hinj) rfl q1961 q1963 qs86 q93 q1964 ⟨rfl, hd_X2_entriesOf⟩ (by decide) rfl (Nat.le_of_ble_eq_true rfl) dX2_replayed_133 ?_
              obtain ⟨rfl, rfl⟩ := gSome hf
              exact j_iret C hr hw dX2_replayed_136
            · replace hf := gIf_f hf n87_2
              by_cases n87_3 : x9 = (nI 3)
              · replace hf := gIf_t hf n87_3
                refine j_tableIn (off := 50) (tgt := 137) C dX2_replayed_87 (by rw [n87_3]; decide) (by rw [n87_3]; decide) (by rw [n87_3]; decide) (by decide) ?_
                refine j_aload_n C dX2_replayed_137 rfl ?_
                refine j_iload_n C dX2_replayed_138 rfl ?_
                refine j_bipush (v := (nI 7)) C dX2_replayed_139 (by decide) ?_
                replace hf := gB2_e hf
                obtain ⟨x21, w20, ew20, hf⟩ := hf
                refine j_callV (As := [(gi x8), (gi (nI 7))]) (rest := []) (v := (some (gi x21))) C (by omega) (kt_X2_entriesOf hinj (by omega) ew20) (tw_cls hinj) rfl q1961 q1963 qs86 q93 q1964 ⟨rfl, hd_X2_entriesOf⟩ (by decide) rfl (Nat.le_of_ble_eq_true rfl) dX2_replayed_141 ?_
                obtain ⟨rfl, rfl⟩ := gSome hf
                exact j_iret C hr hw dX2_replayed_144
              · replace hf := gIf_f hf n87_3
                by_cases n87_4 : x9 = (nI 4)
                · replace hf := gIf_t hf n87_4
                  refine j_tableIn (off := 58) (tgt := 145) C dX2_replayed_87 (by rw [n87_4]; decide) (by rw [n87_4]; decide) (by rw [n87_4]; decide) (by decide) ?_
                  refine j_aload_n C dX2_replayed_145 rfl ?_
                  refine j_iload_n C dX2_replayed_146 rfl ?_
                  refine j_iconst (v := (nI 0)) C dX2_replayed_147 (by decide) ?_
                  replace hf := gB2_e hf
                  obtain ⟨x23, w22, ew22, hf⟩ := hf
                  refine j_callV (As := [(gi x8), (gi (nI 0))]) (rest := []) (v := (some (gi x23))) C (by omega) (kt_X2_entriesOf hinj (by omega) ew22) (tw_cls hinj) rfl q1961 q1963 qs86 q93 q1964 ⟨rfl, hd_X2_entriesOf⟩ (by decide) rfl (Nat.le_of_ble_eq_true rfl) dX2_replayed_148 ?_
                  refine j_aload_n C dX2_replayed_151 rfl ?_
                  refine j_iload_n C dX2_replayed_152 rfl ?_
                  refine j_iconst (v := (nI 5)) C dX2_replayed_153 (by decide) ?_
                  replace hf := gB2_e hf
                  obtain ⟨x25, w24, ew24, hf⟩ := hf
                  refine j_callV (As := [(gi x8), (gi (nI 5))]) (rest := [(gi x23)]) (v := (some (gi x25))) C (by omega) (kt_X2_entriesOf hinj (by omega) ew24) (tw_cls hinj) rfl q1961 q1963 qs86 q93 q1964 ⟨rfl, hd_X2_entriesOf⟩ (by decide) rfl (Nat.le_of_ble_eq_true rfl) dX2_replayed_154 ?_
                  refine j_iadd C dX2_replayed_157 ?_
                  obtain ⟨rfl, rfl⟩ := gSome hf
                  exact j_iret C hr hw dX2_replayed_158
                · replace hf := gIf_f hf n87_4
                  refine j_tableOut (tgt := 159) C dX2_replayed_87 (g_out5 (a := 0) (by decide) n87_0 n87_1 n87_2 n87_3 n87_4) (by decide) ?_
                  refine j_aload_n C dX2_replayed_159 rfl ?_
                  refine j_iload_n C dX2_replayed_160 rfl ?_
                  refine j_iconst (v := (nI 1)) C dX2_replayed_161 (by decide) ?_
                  replace hf := gB2_e hf
                  obtain ⟨x27, w26, ew26, hf⟩ := hf
                  refine j_callV (As := [(gi x8), (gi (nI 1))]) (rest := []) (v := (some (gi x27))) C (by omega) (kt_X2_entriesOf hinj (by omega) ew26) (tw_cls hinj) rfl q1961 q1963 qs86 q93 q1964 ⟨rfl, hd_X2_entriesOf⟩ (by decide) rfl (Nat.le_of_ble_eq_true rfl) dX2_replayed_162 ?_
                  obtain ⟨rfl, rfl⟩ := gSome hf
                  exact j_iret C hr hw dX2_replayed_165
      · replace hf := gIf_f hf c15
        refine j_aload_n C dX2_replayed_34 rfl ?_
        refine j_get (v := (ga (some (ad 5)))) C fl_X2_22_2 dX2_replayed_35 (tw_F hinj rfl) ?_
        refine j_iload_n C dX2_replayed_38 rfl ?_
        refine j_bipush (v := (nI 22)) C dX2_replayed_39 (by decide) ?_
        refine j_iconst (v := (nI 3)) C dX2_replayed_41 (by decide) ?_
        refine j_iload C dX2_replayed_42 rfl ?_
        refine j_imul C dX2_replayed_44 ?_
        refine j_iadd C dX2_replayed_45 ?_
        refine j_iconst (v := (nI 1)) C dX2_replayed_46 (by decide) ?_
        refine j_iadd C dX2_replayed_47 ?_
        replace hf := gB2_e hf
        obtain ⟨x29, w28, ew28, hf⟩ := hf
        refine j_callS (As := [(gi x8), (gi (((nI 22) + ((nI 3) * x11)) + (nI 1)))]) (rest := [(ga (some (ad 5)))]) (v := (some (gi x29))) C (by omega) (kt_X2_of hinj (by omega) ew28) q1798 q1799 q93 q1800 hd_X2_of (by decide) rfl (Nat.le_of_ble_eq_true rfl) dX2_replayed_48 ?_
        replace hf := gB1_e hf
        obtain ⟨x30, ex30, hf⟩ := hf
        refine j_iald C (tw_ld hinj ex30) dX2_replayed_51 ?_
        refine j_bipush (v := (nI 11)) C dX2_replayed_52 (by decide) ?_
        replace hf := gBd_x hf
        obtain ⟨k31, ek31, hf⟩ := hf
        have jk31 : ∀ (x33 : Int32) (x34 : Int32) (x35 : Int32) (x36 : Int32) (w32 : TS), k31 x33 x34 x35 x36 w32 = some (rr, ww) → gJ D dA A K p l e R s m args below meth c (gEnd D dA A K below args s (twOf wb ad w0) (some (gi rr)) (twOf wb ad ww)) 5 79 [(0, (ga (some (ad 0)))), (1, (gi x33)), (2, (gi x34)), (4, (gi x35))] [(gi x36)] (twOf wb ad w32) := by
          intro x33 x34 x35 x36 w32 hf
          rw [ek31] at hf
          dsimp only at hf
          refine j_istore_n (lv' := [(3, (gi x36)), (0, (ga (some (ad 0)))), (1, (gi x33)), (2, (gi x34)), (4, (gi x35))]) C dX2_replayed_79 (by decide) rfl ?_
          replace hf := gBd_x hf
          obtain ⟨x37, ex37, hf⟩ := hf
          refine j_iinc (v := x37) (lv' := [(4, (gi x37)), (3, (gi x36)), (0, (ga (some (ad 0)))), (1, (gi x33)), (2, (gi x34))]) C dX2_replayed_80 rfl (by rw [ex37]; rfl) (by decide) rfl ?_
          refine j_goto (tgt := 24) C dX2_replayed_83 (by decide) ?_
          refine j_sub (lv' := [(0, (ga (some (ad 0)))), (1, (gi x33)), (2, (gi x34)), (3, (gi x36)), (4, (gi x37))]) (gL_cons rfl (gL_cons rfl (gL_cons rfl (gL_cons rfl (gL_cons rfl (gL_nil)))))) ?_
          exact jk12 _ _ _ _ _ hf
        clear ek31
        refine j_icmp_ne (tgt := 78) C dX2_replayed_54 (by decide) (fun c38 => ?_) (fun c38 => ?_)
        · replace hf := gIf_f hf c38
          refine j_iload_n C dX2_replayed_78 rfl ?_
          refine j_sub (lv' := [(0, (ga (some (ad 0)))), (1, (gi x8)), (2, (gi x9)), (4, (gi x11))]) (gL_cons rfl (gL_cons rfl (gL_cons rfl (gL_cons rfl (gL_nil))))) ?_
          exact jk31 _ _ _ _ _ hf
        · replace hf := gIf_t hf c38
          refine j_aload_n C dX2_replayed_57 rfl ?_
          refine j_get (v := (ga (some (ad 5)))) C fl_X2_22_2 dX2_replayed_58 (tw_F hinj rfl) ?_
          refine j_iload_n C dX2_replayed_61 rfl ?_
          refine j_bipush (v := (nI 22)) C dX2_replayed_62 (by decide) ?_
          refine j_iconst (v := (nI 3)) C dX2_replayed_64 (by decide) ?_
          refine j_iload C dX2_replayed_65 rfl ?_
          refine j_imul C dX2_replayed_67 ?_
          refine j_iadd C dX2_replayed_68 ?_
          refine j_iconst (v := (nI 2)) C dX2_replayed_69 (by decide) ?_
          refine j_iadd C dX2_replayed_70 ?_
          replace hf := gB2_e hf
          obtain ⟨x40, w39, ew39, hf⟩ := hf
          refine j_callS (As := [(gi x8), (gi (((nI 22) + ((nI 3) * x11)) + (nI 2)))]) (rest := [(ga (some (ad 5)))]) (v := (some (gi x40))) C (by omega) (kt_X2_of hinj (by omega) ew39) q1798 q1799 q93 q1800 hd_X2_of (by decide) rfl (Nat.le_of_ble_eq_true rfl) dX2_replayed_71 ?_
          replace hf := gB1_e hf
          obtain ⟨x41, ex41, hf⟩ := hf
          refine j_iald C (tw_ld hinj ex41) dX2_replayed_74 ?_
          refine j_goto (tgt := 79) C dX2_replayed_75 (by decide) ?_
          refine j_sub (lv' := [(0, (ga (some (ad 0)))), (1, (gi x8)), (2, (gi x9)), (4, (gi x11))]) (gL_cons rfl (gL_cons rfl (gL_cons rfl (gL_cons rfl (gL_nil))))) ?_
          exact jk31 _ _ _ _ _ hf
    · replace hf := gIf_t hf c6
      refine j_iconst (v := (-1)) C dX2_replayed_17 (by decide) ?_
      obtain ⟨rfl, rfl⟩ := gSome hf
      exact j_iret C hr hw dX2_replayed_18
def dkwX2_statistic_8 : List UInt8 := [29, 134, 110, 184, 1, 16, 172]
abbrev dktX2_statistic_8 : List UInt8 := dkwX2_statistic_8 ++ []
def dkwX2_statistic_7 : List UInt8 := [132, 5, 1, 167, 255, 164, 28, 16, 6, 160, 0, 8, 21, 4, 167, 0, 9, 42, 27, 4, 182, 1, 13, 134]
abbrev dktX2_statistic_7 : List UInt8 := dkwX2_statistic_7 ++ dktX2_statistic_8
def dkwX2_statistic_6 : List UInt8 := [8, 184, 0, 163, 46, 42, 180, 0, 22, 21, 5, 7, 184, 0, 163, 46, 100, 167, 0, 4, 3, 96, 54, 4]
abbrev dktX2_statistic_6 : List UInt8 := dkwX2_statistic_6 ++ dktX2_statistic_7
def dkwX2_statistic_5 : List UInt8 := [46, 155, 0, 7, 4, 167, 0, 4, 3, 54, 6, 21, 4, 21, 6, 153, 0, 29, 42, 180, 0, 22, 21, 5]
abbrev dktX2_statistic_5 : List UInt8 := dkwX2_statistic_5 ++ dktX2_statistic_6
def dkwX2_statistic_4 : List UInt8 := [180, 0, 22, 21, 5, 5, 184, 0, 163, 46, 27, 160, 0, 21, 42, 180, 0, 22, 21, 5, 8, 184, 0, 163]
abbrev dktX2_statistic_4 : List UInt8 := dkwX2_statistic_4 ++ dktX2_statistic_5
def dkwX2_statistic_3 : List UInt8 := [172, 3, 54, 4, 3, 54, 5, 21, 5, 16, 6, 162, 0, 91, 42, 21, 5, 182, 0, 243, 153, 0, 36, 42]
abbrev dktX2_statistic_3 : List UInt8 := dkwX2_statistic_3 ++ dktX2_statistic_4
def dkwX2_statistic_2 : List UInt8 := [182, 1, 13, 42, 27, 6, 182, 1, 13, 96, 42, 27, 7, 182, 1, 13, 96, 62, 29, 154, 0, 6, 16, 251]
abbrev dktX2_statistic_2 : List UInt8 := dkwX2_statistic_2 ++ dktX2_statistic_3
def dkwX2_statistic_1 : List UInt8 := [162, 0, 19, 42, 27, 28, 8, 162, 0, 7, 28, 167, 0, 4, 2, 182, 1, 13, 172, 42, 27, 4]
abbrev dktX2_statistic_1 : List UInt8 := dkwX2_statistic_1 ++ dktX2_statistic_2
def dkwX2_statistic_0 : List UInt8 := [27, 184, 0, 138, 153, 0, 13, 28, 3, 16, 7, 184, 0, 38, 154, 0, 5, 2, 172, 28, 16, 6]
abbrev dktX2_statistic_0 : List UInt8 := dkwX2_statistic_0 ++ dktX2_statistic_1
theorem dksX2_statistic_0 : cX2_statistic.data.toList.drop 0 = dktX2_statistic_0 := by decide +kernel
theorem dksX2_statistic_1 : cX2_statistic.data.toList.drop 22 = dktX2_statistic_1 := dk_seg dksX2_statistic_0 22 rfl rfl
theorem dksX2_statistic_2 : cX2_statistic.data.toList.drop 44 = dktX2_statistic_2 := dk_seg dksX2_statistic_1 22 rfl rfl
theorem dksX2_statistic_3 : cX2_statistic.data.toList.drop 68 = dktX2_statistic_3 := dk_seg dksX2_statistic_2 24 rfl rfl
theorem dksX2_statistic_4 : cX2_statistic.data.toList.drop 92 = dktX2_statistic_4 := dk_seg dksX2_statistic_3 24 rfl rfl
theorem dksX2_statistic_5 : cX2_statistic.data.toList.drop 116 = dktX2_statistic_5 := dk_seg dksX2_statistic_4 24 rfl rfl
theorem dksX2_statistic_6 : cX2_statistic.data.toList.drop 140 = dktX2_statistic_6 := dk_seg dksX2_statistic_5 24 rfl rfl
theorem dksX2_statistic_7 : cX2_statistic.data.toList.drop 164 = dktX2_statistic_7 := dk_seg dksX2_statistic_6 24 rfl rfl
theorem dksX2_statistic_8 : cX2_statistic.data.toList.drop 188 = dktX2_statistic_8 := dk_seg dksX2_statistic_7 24 rfl rfl
theorem dX2_statistic_0 : decode cX2_statistic 0 = .ok (.iload_n 1, 1) := dk_27 (dk_at dksX2_statistic_0 0 rfl rfl)
theorem dX2_statistic_1 : decode cX2_statistic 1 = .ok (.invokestatic 138, 3) := dk_184 0 138 (dk_at dksX2_statistic_0 1 rfl rfl)
theorem dX2_statistic_4 : decode cX2_statistic 4 = .ok (.ifCond .eq 13, 3) := dk_153 0 13 (dk_at dksX2_statistic_0 4 rfl rfl)
theorem dX2_statistic_7 : decode cX2_statistic 7 = .ok (.iload_n 2, 1) := dk_28 (dk_at dksX2_statistic_0 7 rfl rfl)
theorem dX2_statistic_8 : decode cX2_statistic 8 = .ok (.iconst 0, 1) := dk_3 (dk_at dksX2_statistic_0 8 rfl rfl)
theorem dX2_statistic_9 : decode cX2_statistic 9 = .ok (.bipush 7, 2) := dk_16 7 (dk_at dksX2_statistic_0 9 rfl rfl)
theorem dX2_statistic_11 : decode cX2_statistic 11 = .ok (.invokestatic 38, 3) := dk_184 0 38 (dk_at dksX2_statistic_0 11 rfl rfl)
theorem dX2_statistic_14 : decode cX2_statistic 14 = .ok (.ifCond .ne 5, 3) := dk_154 0 5 (dk_at dksX2_statistic_0 14 rfl rfl)
theorem dX2_statistic_17 : decode cX2_statistic 17 = .ok (.iconst (-1), 1) := dk_2 (dk_at dksX2_statistic_0 17 rfl rfl)
theorem dX2_statistic_18 : decode cX2_statistic 18 = .ok (.ireturn, 1) := dk_172 (dk_at dksX2_statistic_0 18 rfl rfl)
theorem dX2_statistic_19 : decode cX2_statistic 19 = .ok (.iload_n 2, 1) := dk_28 (dk_at dksX2_statistic_0 19 rfl rfl)
theorem dX2_statistic_20 : decode cX2_statistic 20 = .ok (.bipush 6, 2) := dk_16 6 (dk_at dksX2_statistic_0 20 rfl rfl)
theorem dX2_statistic_22 : decode cX2_statistic 22 = .ok (.if_icmp .ge 19, 3) := dk_162 0 19 (dk_at dksX2_statistic_1 0 rfl rfl)
theorem dX2_statistic_25 : decode cX2_statistic 25 = .ok (.aload_n 0, 1) := dk_42 (dk_at dksX2_statistic_1 3 rfl rfl)
theorem dX2_statistic_26 : decode cX2_statistic 26 = .ok (.iload_n 1, 1) := dk_27 (dk_at dksX2_statistic_1 4 rfl rfl)
theorem dX2_statistic_27 : decode cX2_statistic 27 = .ok (.iload_n 2, 1) := dk_28 (dk_at dksX2_statistic_1 5 rfl rfl)
theorem dX2_statistic_28 : decode cX2_statistic 28 = .ok (.iconst 5, 1) := dk_8 (dk_at dksX2_statistic_1 6 rfl rfl)
theorem dX2_statistic_29 : decode cX2_statistic 29 = .ok (.if_icmp .ge 7, 3) := dk_162 0 7 (dk_at dksX2_statistic_1 7 rfl rfl)
theorem dX2_statistic_32 : decode cX2_statistic 32 = .ok (.iload_n 2, 1) := dk_28 (dk_at dksX2_statistic_1 10 rfl rfl)
theorem dX2_statistic_33 : decode cX2_statistic 33 = .ok (.goto 4, 3) := dk_167 0 4 (dk_at dksX2_statistic_1 11 rfl rfl)
theorem dX2_statistic_36 : decode cX2_statistic 36 = .ok (.iconst (-1), 1) := dk_2 (dk_at dksX2_statistic_1 14 rfl rfl)
theorem dX2_statistic_37 : decode cX2_statistic 37 = .ok (.invokevirtual 269, 3) := dk_182 1 13 (dk_at dksX2_statistic_1 15 rfl rfl)
theorem dX2_statistic_40 : decode cX2_statistic 40 = .ok (.ireturn, 1) := dk_172 (dk_at dksX2_statistic_1 18 rfl rfl)
theorem dX2_statistic_41 : decode cX2_statistic 41 = .ok (.aload_n 0, 1) := dk_42 (dk_at dksX2_statistic_1 19 rfl rfl)
theorem dX2_statistic_42 : decode cX2_statistic 42 = .ok (.iload_n 1, 1) := dk_27 (dk_at dksX2_statistic_1 20 rfl rfl)
theorem dX2_statistic_43 : decode cX2_statistic 43 = .ok (.iconst 1, 1) := dk_4 (dk_at dksX2_statistic_1 21 rfl rfl)
theorem dX2_statistic_44 : decode cX2_statistic 44 = .ok (.invokevirtual 269, 3) := dk_182 1 13 (dk_at dksX2_statistic_2 0 rfl rfl)
theorem dX2_statistic_47 : decode cX2_statistic 47 = .ok (.aload_n 0, 1) := dk_42 (dk_at dksX2_statistic_2 3 rfl rfl)
theorem dX2_statistic_48 : decode cX2_statistic 48 = .ok (.iload_n 1, 1) := dk_27 (dk_at dksX2_statistic_2 4 rfl rfl)
theorem dX2_statistic_49 : decode cX2_statistic 49 = .ok (.iconst 3, 1) := dk_6 (dk_at dksX2_statistic_2 5 rfl rfl)
theorem dX2_statistic_50 : decode cX2_statistic 50 = .ok (.invokevirtual 269, 3) := dk_182 1 13 (dk_at dksX2_statistic_2 6 rfl rfl)
theorem dX2_statistic_53 : decode cX2_statistic 53 = .ok (.iadd, 1) := dk_96 (dk_at dksX2_statistic_2 9 rfl rfl)
theorem dX2_statistic_54 : decode cX2_statistic 54 = .ok (.aload_n 0, 1) := dk_42 (dk_at dksX2_statistic_2 10 rfl rfl)
theorem dX2_statistic_55 : decode cX2_statistic 55 = .ok (.iload_n 1, 1) := dk_27 (dk_at dksX2_statistic_2 11 rfl rfl)
theorem dX2_statistic_56 : decode cX2_statistic 56 = .ok (.iconst 4, 1) := dk_7 (dk_at dksX2_statistic_2 12 rfl rfl)
theorem dX2_statistic_57 : decode cX2_statistic 57 = .ok (.invokevirtual 269, 3) := dk_182 1 13 (dk_at dksX2_statistic_2 13 rfl rfl)
theorem dX2_statistic_60 : decode cX2_statistic 60 = .ok (.iadd, 1) := dk_96 (dk_at dksX2_statistic_2 16 rfl rfl)
theorem dX2_statistic_61 : decode cX2_statistic 61 = .ok (.istore_n 3, 1) := dk_62 (dk_at dksX2_statistic_2 17 rfl rfl)
theorem dX2_statistic_62 : decode cX2_statistic 62 = .ok (.iload_n 3, 1) := dk_29 (dk_at dksX2_statistic_2 18 rfl rfl)
theorem dX2_statistic_63 : decode cX2_statistic 63 = .ok (.ifCond .ne 6, 3) := dk_154 0 6 (dk_at dksX2_statistic_2 19 rfl rfl)
theorem dX2_statistic_66 : decode cX2_statistic 66 = .ok (.bipush (-5), 2) := dk_16 251 (dk_at dksX2_statistic_2 22 rfl rfl)
theorem dX2_statistic_68 : decode cX2_statistic 68 = .ok (.ireturn, 1) := dk_172 (dk_at dksX2_statistic_3 0 rfl rfl)
theorem dX2_statistic_69 : decode cX2_statistic 69 = .ok (.iconst 0, 1) := dk_3 (dk_at dksX2_statistic_3 1 rfl rfl)
theorem dX2_statistic_70 : decode cX2_statistic 70 = .ok (.istore 4, 2) := dk_54 4 (dk_at dksX2_statistic_3 2 rfl rfl)
theorem dX2_statistic_72 : decode cX2_statistic 72 = .ok (.iconst 0, 1) := dk_3 (dk_at dksX2_statistic_3 4 rfl rfl)
theorem dX2_statistic_73 : decode cX2_statistic 73 = .ok (.istore 5, 2) := dk_54 5 (dk_at dksX2_statistic_3 5 rfl rfl)
theorem dX2_statistic_75 : decode cX2_statistic 75 = .ok (.iload 5, 2) := dk_21 5 (dk_at dksX2_statistic_3 7 rfl rfl)
theorem dX2_statistic_77 : decode cX2_statistic 77 = .ok (.bipush 6, 2) := dk_16 6 (dk_at dksX2_statistic_3 9 rfl rfl)
theorem dX2_statistic_79 : decode cX2_statistic 79 = .ok (.if_icmp .ge 91, 3) := dk_162 0 91 (dk_at dksX2_statistic_3 11 rfl rfl)
theorem dX2_statistic_82 : decode cX2_statistic 82 = .ok (.aload_n 0, 1) := dk_42 (dk_at dksX2_statistic_3 14 rfl rfl)
theorem dX2_statistic_83 : decode cX2_statistic 83 = .ok (.iload 5, 2) := dk_21 5 (dk_at dksX2_statistic_3 15 rfl rfl)
theorem dX2_statistic_85 : decode cX2_statistic 85 = .ok (.invokevirtual 243, 3) := dk_182 0 243 (dk_at dksX2_statistic_3 17 rfl rfl)
theorem dX2_statistic_88 : decode cX2_statistic 88 = .ok (.ifCond .eq 36, 3) := dk_153 0 36 (dk_at dksX2_statistic_3 20 rfl rfl)
theorem dX2_statistic_91 : decode cX2_statistic 91 = .ok (.aload_n 0, 1) := dk_42 (dk_at dksX2_statistic_3 23 rfl rfl)
theorem dX2_statistic_92 : decode cX2_statistic 92 = .ok (.getfield 22, 3) := dk_180 0 22 (dk_at dksX2_statistic_4 0 rfl rfl)
theorem dX2_statistic_95 : decode cX2_statistic 95 = .ok (.iload 5, 2) := dk_21 5 (dk_at dksX2_statistic_4 3 rfl rfl)
theorem dX2_statistic_97 : decode cX2_statistic 97 = .ok (.iconst 2, 1) := dk_5 (dk_at dksX2_statistic_4 5 rfl rfl)
theorem dX2_statistic_98 : decode cX2_statistic 98 = .ok (.invokestatic 163, 3) := dk_184 0 163 (dk_at dksX2_statistic_4 6 rfl rfl)
theorem dX2_statistic_101 : decode cX2_statistic 101 = .ok (.iaload, 1) := dk_46 (dk_at dksX2_statistic_4 9 rfl rfl)
theorem dX2_statistic_102 : decode cX2_statistic 102 = .ok (.iload_n 1, 1) := dk_27 (dk_at dksX2_statistic_4 10 rfl rfl)
theorem dX2_statistic_103 : decode cX2_statistic 103 = .ok (.if_icmp .ne 21, 3) := dk_160 0 21 (dk_at dksX2_statistic_4 11 rfl rfl)
theorem dX2_statistic_106 : decode cX2_statistic 106 = .ok (.aload_n 0, 1) := dk_42 (dk_at dksX2_statistic_4 14 rfl rfl)
theorem dX2_statistic_107 : decode cX2_statistic 107 = .ok (.getfield 22, 3) := dk_180 0 22 (dk_at dksX2_statistic_4 15 rfl rfl)
theorem dX2_statistic_110 : decode cX2_statistic 110 = .ok (.iload 5, 2) := dk_21 5 (dk_at dksX2_statistic_4 18 rfl rfl)
theorem dX2_statistic_112 : decode cX2_statistic 112 = .ok (.iconst 5, 1) := dk_8 (dk_at dksX2_statistic_4 20 rfl rfl)
theorem dX2_statistic_113 : decode cX2_statistic 113 = .ok (.invokestatic 163, 3) := dk_184 0 163 (dk_at dksX2_statistic_4 21 rfl rfl)
theorem dX2_statistic_116 : decode cX2_statistic 116 = .ok (.iaload, 1) := dk_46 (dk_at dksX2_statistic_5 0 rfl rfl)
theorem dX2_statistic_117 : decode cX2_statistic 117 = .ok (.ifCond .lt 7, 3) := dk_155 0 7 (dk_at dksX2_statistic_5 1 rfl rfl)
theorem dX2_statistic_120 : decode cX2_statistic 120 = .ok (.iconst 1, 1) := dk_4 (dk_at dksX2_statistic_5 4 rfl rfl)
theorem dX2_statistic_121 : decode cX2_statistic 121 = .ok (.goto 4, 3) := dk_167 0 4 (dk_at dksX2_statistic_5 5 rfl rfl)
theorem dX2_statistic_124 : decode cX2_statistic 124 = .ok (.iconst 0, 1) := dk_3 (dk_at dksX2_statistic_5 8 rfl rfl)
theorem dX2_statistic_125 : decode cX2_statistic 125 = .ok (.istore 6, 2) := dk_54 6 (dk_at dksX2_statistic_5 9 rfl rfl)
theorem dX2_statistic_127 : decode cX2_statistic 127 = .ok (.iload 4, 2) := dk_21 4 (dk_at dksX2_statistic_5 11 rfl rfl)
theorem dX2_statistic_129 : decode cX2_statistic 129 = .ok (.iload 6, 2) := dk_21 6 (dk_at dksX2_statistic_5 13 rfl rfl)
theorem dX2_statistic_131 : decode cX2_statistic 131 = .ok (.ifCond .eq 29, 3) := dk_153 0 29 (dk_at dksX2_statistic_5 15 rfl rfl)
theorem dX2_statistic_134 : decode cX2_statistic 134 = .ok (.aload_n 0, 1) := dk_42 (dk_at dksX2_statistic_5 18 rfl rfl)
theorem dX2_statistic_135 : decode cX2_statistic 135 = .ok (.getfield 22, 3) := dk_180 0 22 (dk_at dksX2_statistic_5 19 rfl rfl)
theorem dX2_statistic_138 : decode cX2_statistic 138 = .ok (.iload 5, 2) := dk_21 5 (dk_at dksX2_statistic_5 22 rfl rfl)
theorem dX2_statistic_140 : decode cX2_statistic 140 = .ok (.iconst 5, 1) := dk_8 (dk_at dksX2_statistic_6 0 rfl rfl)
theorem dX2_statistic_141 : decode cX2_statistic 141 = .ok (.invokestatic 163, 3) := dk_184 0 163 (dk_at dksX2_statistic_6 1 rfl rfl)
theorem dX2_statistic_144 : decode cX2_statistic 144 = .ok (.iaload, 1) := dk_46 (dk_at dksX2_statistic_6 4 rfl rfl)
theorem dX2_statistic_145 : decode cX2_statistic 145 = .ok (.aload_n 0, 1) := dk_42 (dk_at dksX2_statistic_6 5 rfl rfl)
theorem dX2_statistic_146 : decode cX2_statistic 146 = .ok (.getfield 22, 3) := dk_180 0 22 (dk_at dksX2_statistic_6 6 rfl rfl)
theorem dX2_statistic_149 : decode cX2_statistic 149 = .ok (.iload 5, 2) := dk_21 5 (dk_at dksX2_statistic_6 9 rfl rfl)
theorem dX2_statistic_151 : decode cX2_statistic 151 = .ok (.iconst 4, 1) := dk_7 (dk_at dksX2_statistic_6 11 rfl rfl)
theorem dX2_statistic_152 : decode cX2_statistic 152 = .ok (.invokestatic 163, 3) := dk_184 0 163 (dk_at dksX2_statistic_6 12 rfl rfl)
theorem dX2_statistic_155 : decode cX2_statistic 155 = .ok (.iaload, 1) := dk_46 (dk_at dksX2_statistic_6 15 rfl rfl)
theorem dX2_statistic_156 : decode cX2_statistic 156 = .ok (.isub, 1) := dk_100 (dk_at dksX2_statistic_6 16 rfl rfl)
theorem dX2_statistic_157 : decode cX2_statistic 157 = .ok (.goto 4, 3) := dk_167 0 4 (dk_at dksX2_statistic_6 17 rfl rfl)
theorem dX2_statistic_160 : decode cX2_statistic 160 = .ok (.iconst 0, 1) := dk_3 (dk_at dksX2_statistic_6 20 rfl rfl)
theorem dX2_statistic_161 : decode cX2_statistic 161 = .ok (.iadd, 1) := dk_96 (dk_at dksX2_statistic_6 21 rfl rfl)
theorem dX2_statistic_162 : decode cX2_statistic 162 = .ok (.istore 4, 2) := dk_54 4 (dk_at dksX2_statistic_6 22 rfl rfl)
theorem dX2_statistic_164 : decode cX2_statistic 164 = .ok (.iinc 5 1, 3) := dk_132 5 1 (dk_at dksX2_statistic_7 0 rfl rfl)
theorem dX2_statistic_167 : decode cX2_statistic 167 = .ok (.goto (-92), 3) := dk_167 255 164 (dk_at dksX2_statistic_7 3 rfl rfl)
theorem dX2_statistic_170 : decode cX2_statistic 170 = .ok (.iload_n 2, 1) := dk_28 (dk_at dksX2_statistic_7 6 rfl rfl)
theorem dX2_statistic_171 : decode cX2_statistic 171 = .ok (.bipush 6, 2) := dk_16 6 (dk_at dksX2_statistic_7 7 rfl rfl)
theorem dX2_statistic_173 : decode cX2_statistic 173 = .ok (.if_icmp .ne 8, 3) := dk_160 0 8 (dk_at dksX2_statistic_7 9 rfl rfl)
theorem dX2_statistic_176 : decode cX2_statistic 176 = .ok (.iload 4, 2) := dk_21 4 (dk_at dksX2_statistic_7 12 rfl rfl)
theorem dX2_statistic_178 : decode cX2_statistic 178 = .ok (.goto 9, 3) := dk_167 0 9 (dk_at dksX2_statistic_7 14 rfl rfl)
theorem dX2_statistic_181 : decode cX2_statistic 181 = .ok (.aload_n 0, 1) := dk_42 (dk_at dksX2_statistic_7 17 rfl rfl)
theorem dX2_statistic_182 : decode cX2_statistic 182 = .ok (.iload_n 1, 1) := dk_27 (dk_at dksX2_statistic_7 18 rfl rfl)
theorem dX2_statistic_183 : decode cX2_statistic 183 = .ok (.iconst 1, 1) := dk_4 (dk_at dksX2_statistic_7 19 rfl rfl)
theorem dX2_statistic_184 : decode cX2_statistic 184 = .ok (.invokevirtual 269, 3) := dk_182 1 13 (dk_at dksX2_statistic_7 20 rfl rfl)
theorem dX2_statistic_187 : decode cX2_statistic 187 = .ok (.i2f, 1) := dk_134 (dk_at dksX2_statistic_7 23 rfl rfl)
theorem dX2_statistic_188 : decode cX2_statistic 188 = .ok (.iload_n 3, 1) := dk_29 (dk_at dksX2_statistic_8 0 rfl rfl)
theorem dX2_statistic_189 : decode cX2_statistic 189 = .ok (.i2f, 1) := dk_134 (dk_at dksX2_statistic_8 1 rfl rfl)
theorem dX2_statistic_190 : decode cX2_statistic 190 = .ok (.fdiv, 1) := dk_110 (dk_at dksX2_statistic_8 2 rfl rfl)
theorem dX2_statistic_191 : decode cX2_statistic 191 = .ok (.invokestatic 272, 3) := dk_184 1 16 (dk_at dksX2_statistic_8 3 rfl rfl)
theorem dX2_statistic_194 : decode cX2_statistic 194 = .ok (.ireturn, 1) := dk_172 (dk_at dksX2_statistic_8 6 rfl rfl)
theorem hd_X2_isWorkflow : (yX2_isWorkflow.cls ≠ "java/lang/invoke/MethodHandle" ∧ yX2_isWorkflow.cls ≠ "java/lang/invoke/VarHandle" ∧ (parseMethodDescriptor yX2_isWorkflow.desc).map (fun d => d.parameters.length) = some 1) := ⟨by decide +kernel, by decide +kernel, by decide +kernel⟩
def t_X2_statistic (p1 : Int32) (p2 : Int32) (w0 : TS) : Option (Int32 × TS) := gB2 (t_X2_isWorkflow p1 w0) fun x2 w1 => if x2 = 0 then some ((-1), w1) else gB2 (t_X2_isIn p2 (nI 0) (nI 7) w1) fun x5 w4 => if x5 = 0 then some ((-1), w4) else if (nI 6) ≤ p2 then gB2 (t_X2_instancesOf p1 (nI 1) w4) fun x9 w8 => gB2 (t_X2_instancesOf p1 (nI 3) w8) fun x11 w10 => gB2 (t_X2_instancesOf p1 (nI 4) w10) fun x13 w12 => gBd ((x9 + x11) + x13) fun x14 => if x14 = 0 then some ((-5), w12) else gL5 (fun k22 (x17 : Int32) (x18 : Int32) (x19 : Int32) (x20 : Int32) (x21 : Int32) (w16 : TS) => if (nI 6) ≤ x21 then gBd (fun (x26 : Int32) (x27 : Int32) (w25 : TS) => gB1 (gNn (FP.fdiv (FP.i2f x27) (FP.i2f x26))) fun _ => gB2 (t_J10_floatToIntBits (FP.fdiv (FP.i2f x27) (FP.i2f x26)) w25) fun x29 w28 => some (x29, w28)) fun k24 => if x18 = (nI 6) then k24 x19 x20 w16 else gB2 (t_X2_instancesOf x17 (nI 1) w16) fun x32 w31 => k24 x19 x32 w31 else gB2 (t_X2_isInstance x21 w16) fun x34 w33 => gBd (fun (x37 : Int32) (x38 : Int32) (x39 : Int32) (x40 : Int32) (x41 : Int32) (x42 : Int32) (w36 : TS) => gBd (fun (x45 : Int32) (x46 : Int32) (x47 : Int32) (x48 : Int32) (x49 : Int32) (x50 : Int32) (w44 : TS) => gBd (x49 + x50) fun x51 => gBd (x48 + (nI 1)) fun x52 => k22 x45 x46 x47 x51 x52 w44) fun k43 => if x42 = 0 then k43 x37 x38 x39 x41 x40 (nI 0) w36 else gB2 (t_X2_of x41 (nI 5) w36) fun x55 w54 => gB1 (tLd w54 5 x55) fun x56 => gB2 (t_X2_of x41 (nI 4) w54) fun x58 w57 => gB1 (tLd w57 5 x58) fun x59 => k43 x37 x38 x39 x41 x40 (x56 - x59) w57) fun k35 => gBd (fun (x62 : Int32) (x63 : Int32) (x64 : Int32) (x65 : Int32) (x66 : Int32) (w61 : TS) => k35 x62 x63 x64 x65 x66 (nI 0) w61) fun k60 => if x34 = 0 then k60 x17 x18 x19 x20 x21 w33 else gB2 (t_X2_of x21 (nI 2) w33) fun x69 w68 => gB1 (tLd w68 5 x69) fun x70 => if x70 = x17 then gB2 (t_X2_of x21 (nI 5) w68) fun x73 w72 => gB1 (tLd w72 5 x73) fun x74 => if x74 < 0 then k60 x17 x18 x19 x20 x21 w72 else k35 x17 x18 x19 x20 x21 (nI 1) w72 else k60 x17 x18 x19 x20 x21 w68) 20000 p1 p2 x14 (nI 0) (nI 0) w12 else gBd (fun (x78 : Int32) (x79 : Int32) (w77 : TS) => gB2 (t_X2_instancesOf x78 x79 w77) fun x81 w80 => some (x81, w80)) fun k76 => if (nI 5) ≤ p2 then k76 p1 (-1) w4 else k76 p1 p2 w4
set_option maxHeartbeats 4000000 in
set_option maxRecDepth 100000 in
theorem kt_X2_statistic {D : va_G} {dA : Nat → ClassId} {A : Nat → Prop} {K : Nat → Nat} {l : Launch} {wb : gw} {ad : Nat → Nat} (hinj : tInj ad) {h : Nat} (hh : 3 ≤ h) {p1 : Int32} {p2 : Int32} {w0 ww : TS} {rr : Int32} (hf : t_X2_statistic p1 p2 w0 = some (rr, ww)) : gMet D dA A K l yX2_statistic (ws_ yX2_statistic cX2_statistic 7 (some .int)) h [(ga (some (ad 0))), (gi p1), (gi p2)] (some (gi rr)) (twOf wb ad w0) (twOf wb ad ww) := by
  refine j_start (own := RX2) (by decide +kernel) rfl (Nat.le_of_ble_eq_true rfl) ?_
  intro p e R s m args below meth c C hr hin hw
  unfold t_X2_statistic at hf
  show gJ D dA A K p l e R s m args below meth c (gEnd D dA A K below args s (twOf wb ad w0) (some (gi rr)) (twOf wb ad ww)) 7 0 [(0, (ga (some (ad 0)))), (1, (gi p1)), (2, (gi p2))] [] (twOf wb ad w0)
  refine j_iload_n C dX2_statistic_0 rfl ?_
  replace hf := gB2_e hf
  obtain ⟨x2, w1, ew1, hf⟩ := hf
  refine j_callS (As := [(gi p1)]) (rest := []) (v := (some (gi x2))) C (by omega) (kt_X2_isWorkflow hinj (by omega) ew1) q1669 q1670 q93 q1671 hd_X2_isWorkflow (by decide) rfl (Nat.le_of_ble_eq_true rfl) dX2_statistic_1 ?_
  refine j_if_eq (tgt := 17) C dX2_statistic_4 (by decide) (fun c3 => ?_) (fun c3 => ?_)
  · replace hf := gIf_t hf c3
    refine j_iconst (v := (-1)) C dX2_statistic_17 (by decide) ?_
    obtain ⟨rfl, rfl⟩ := gSome hf
    exact j_iret C hr hw dX2_statistic_18
  · replace hf := gIf_f hf c3
    refine j_iload_n C dX2_statistic_7 rfl ?_
    refine j_iconst (v := (nI 0)) C dX2_statistic_8 (by decide) ?_
    refine j_bipush (v := (nI 7)) C dX2_statistic_9 (by decide) ?_
    replace hf := gB2_e hf
    obtain ⟨x5, w4, ew4, hf⟩ := hf
    refine j_callS (As := [(gi p2), (gi (nI 0)), (gi (nI 7))]) (rest := []) (v := (some (gi x5))) C (by omega) (kt_X2_isIn hinj (by omega) ew4) q1662 q1663 q93 q1664 hd_X2_isIn (by decide) rfl (Nat.le_of_ble_eq_true rfl) dX2_statistic_11 ?_
    refine j_if_ne (tgt := 19) C dX2_statistic_14 (by decide) (fun c6 => ?_) (fun c6 => ?_)
    · replace hf := gIf_f hf c6
      refine j_iload_n C dX2_statistic_19 rfl ?_
      refine j_bipush (v := (nI 6)) C dX2_statistic_20 (by decide) ?_
      refine j_icmp_ge (tgt := 41) C dX2_statistic_22 (by decide) (fun c7 => ?_) (fun c7 => ?_)
      · replace hf := gIf_t hf c7
        refine j_aload_n C dX2_statistic_41 rfl ?_
        refine j_iload_n C dX2_statistic_42 rfl ?_
        refine j_iconst (v := (nI 1)) C dX2_statistic_43 (by decide) ?_
        replace hf := gB2_e hf
        obtain ⟨x9, w8, ew8, hf⟩ := hf
        refine j_callV (As := [(gi p1), (gi (nI 1))]) (rest := []) (v := (some (gi x9))) C (by omega) (kt_X2_instancesOf hinj (by omega) ew8) (tw_cls hinj) rfl q1969 q1971 qs87 q93 q1972 ⟨rfl, hd_X2_instancesOf⟩ (by decide) rfl (Nat.le_of_ble_eq_true rfl) dX2_statistic_44 ?_
        refine j_aload_n C dX2_statistic_47 rfl ?_
        refine j_iload_n C dX2_statistic_48 rfl ?_
        refine j_iconst (v := (nI 3)) C dX2_statistic_49 (by decide) ?_
        replace hf := gB2_e hf
        obtain ⟨x11, w10, ew10, hf⟩ := hf
        refine j_callV (As := [(gi p1), (gi (nI 3))]) (rest := [(gi x9)]) (v := (some (gi x11))) C (by omega) (kt_X2_instancesOf hinj (by omega) ew10) (tw_cls hinj) rfl q1969 q1971 qs87 q93 q1972 ⟨rfl, hd_X2_instancesOf⟩ (by decide) rfl (Nat.le_of_ble_eq_true rfl) dX2_statistic_50 ?_
        refine j_iadd C dX2_statistic_53 ?_
        refine j_aload_n C dX2_statistic_54 rfl ?_
        refine j_iload_n C dX2_statistic_55 rfl ?_
        refine j_iconst (v := (nI 4)) C dX2_statistic_56 (by decide) ?_
        replace hf := gB2_e hf
        obtain ⟨x13, w12, ew12, hf⟩ := hf
        refine j_callV (As := [(gi p1), (gi (nI 4))]) (rest := [(gi (x9 + x11))]) (v := (some (gi x13))) C (by omega) (kt_X2_instancesOf hinj (by omega) ew12) (tw_cls hinj) rfl q1969 q1971 qs87 q93 q1972 ⟨rfl, hd_X2_instancesOf⟩ (by decide) rfl (Nat.le_of_ble_eq_true rfl) dX2_statistic_57 ?_
        refine j_iadd C dX2_statistic_60 ?_
        replace hf := gBd_x hf
        obtain ⟨x14, ex14, hf⟩ := hf
        refine j_nm ex14 ?_
        refine j_istore_n (lv' := [(3, (gi x14)), (0, (ga (some (ad 0)))), (1, (gi p1)), (2, (gi p2))]) C dX2_statistic_61 (by decide) rfl ?_
        refine j_iload_n C dX2_statistic_62 rfl ?_
        refine j_if_ne (tgt := 69) C dX2_statistic_63 (by decide) (fun c15 => ?_) (fun c15 => ?_)
        · replace hf := gIf_f hf c15
          refine j_iconst (v := (nI 0)) C dX2_statistic_69 (by decide) ?_
          refine j_istore (lv' := [(4, (gi (nI 0))), (3, (gi x14)), (0, (ga (some (ad 0)))), (1, (gi p1)), (2, (gi p2))]) C dX2_statistic_70 (by decide) rfl ?_
          refine j_iconst (v := (nI 0)) C dX2_statistic_72 (by decide) ?_
          refine j_istore (lv' := [(5, (gi (nI 0))), (4, (gi (nI 0))), (3, (gi x14)), (0, (ga (some (ad 0)))), (1, (gi p1)), (2, (gi p2))]) C dX2_statistic_73 (by decide) rfl ?_
          refine j_sub (lv' := [(0, (ga (some (ad 0)))), (1, (gi p1)), (2, (gi p2)), (3, (gi x14)), (4, (gi (nI 0))), (5, (gi (nI 0)))]) (gL_cons rfl (gL_cons rfl (gL_cons rfl (gL_cons rfl (gL_cons rfl (gL_cons rfl (gL_nil))))))) ?_
          refine gL5_e (fun (x17 : Int32) (x18 : Int32) (x19 : Int32) (x20 : Int32) (x21 : Int32) (w16 : TS) => gJ D dA A K p l e R s m args below meth c (gEnd D dA A K below args s (twOf wb ad w0) (some (gi rr)) (twOf wb ad ww)) 7 75 [(0, (ga (some (ad 0)))), (1, (gi x17)), (2, (gi x18)), (3, (gi x19)), (4, (gi x20)), (5, (gi x21))] [] (twOf wb ad w16)) ?_ _ _ _ _ _ _ _ hf
          intro k22 jk22 x17 x18 x19 x20 x21 w16 hf
          refine j_iload C dX2_statistic_75 rfl ?_
          refine j_bipush (v := (nI 6)) C dX2_statistic_77 (by decide) ?_
          refine j_icmp_ge (tgt := 170) C dX2_statistic_79 (by decide) (fun c23 => ?_) (fun c23 => ?_)
          · replace hf := gIf_t hf c23
            refine j_iload_n C dX2_statistic_170 rfl ?_
            refine j_bipush (v := (nI 6)) C dX2_statistic_171 (by decide) ?_
            replace hf := gBd_x hf
            obtain ⟨k24, ek24, hf⟩ := hf
            have jk24 : ∀ (x26 : Int32) (x27 : Int32) (w25 : TS), k24 x26 x27 w25 = some (rr, ww) → gJ D dA A K p l e R s m args below meth c (gEnd D dA A K below args s (twOf wb ad w0) (some (gi rr)) (twOf wb ad ww)) 7 187 [(3, (gi x26))] [(gi x27)] (twOf wb ad w25) := by
              intro x26 x27 w25 hf
              rw [ek24] at hf
              dsimp only at hf
              refine j_i2f C dX2_statistic_187 ?_
              refine j_iload_n C dX2_statistic_188 rfl ?_
              refine j_i2f C dX2_statistic_189 ?_
              replace hf := gB1_e hf
              obtain ⟨_, en, hf⟩ := hf
              refine j_fdiv C dX2_statistic_190 (gNn_e en) ?_
              replace hf := gB2_e hf
              obtain ⟨x29, w28, ew28, hf⟩ := hf
              refine j_callS (As := [(gfl (FP.fdiv (FP.i2f x27) (FP.i2f x26)))]) (rest := []) (v := (some (gi x29))) C (by omega) (kt_J10_floatToIntBits hinj (by omega) ew28) q1973 q1522 q132 q1523 hd_J10_floatToIntBits (by decide) rfl (Nat.le_of_ble_eq_true rfl) dX2_statistic_191 ?_
              obtain ⟨rfl, rfl⟩ := gSome hf
              exact j_iret C hr hw dX2_statistic_194
            clear ek24
            refine j_icmp_ne (tgt := 181) C dX2_statistic_173 (by decide) (fun c30 => ?_) (fun c30 => ?_)
            · replace hf := gIf_f hf c30
              refine j_aload_n C dX2_statistic_181 rfl ?_
              refine j_iload_n C dX2_statistic_182 rfl ?_
              refine j_iconst (v := (nI 1)) C dX2_statistic_183 (by decide) ?_
              replace hf := gB2_e hf
              obtain ⟨x32, w31, ew31, hf⟩ := hf
              refine j_callV (As := [(gi x17), (gi (nI 1))]) (rest := []) (v := (some (gi x32))) C (by omega) (kt_X2_instancesOf hinj (by omega) ew31) (tw_cls hinj) rfl q1969 q1971 qs87 q93 q1972 ⟨rfl, hd_X2_instancesOf⟩ (by decide) rfl (Nat.le_of_ble_eq_true rfl) dX2_statistic_184 ?_
              refine j_sub (lv' := [(3, (gi x19))]) (gL_cons rfl (gL_nil)) ?_
              exact jk24 _ _ _ hf
            · replace hf := gIf_t hf c30
              refine j_iload C dX2_statistic_176 rfl ?_
              refine j_goto (tgt := 187) C dX2_statistic_178 (by decide) ?_
              refine j_sub (lv' := [(3, (gi x19))]) (gL_cons rfl (gL_nil)) ?_
              exact jk24 _ _ _ hf
          · replace hf := gIf_f hf c23
            refine j_aload_n C dX2_statistic_82 rfl ?_
            refine j_iload C dX2_statistic_83 rfl ?_
            replace hf := gB2_e hf
            obtain ⟨x34, w33, ew33, hf⟩ := hf
            refine j_callV (As := [(gi x21)]) (rest := []) (v := (some (gi x34))) C (by omega) (kt_X2_isInstance hinj (by omega) ew33) (tw_cls hinj) rfl q1900 q1902 qs81 q93 q1903 ⟨rfl, hd_X2_isInstance⟩ (by decide) rfl (Nat.le_of_ble_eq_true rfl) dX2_statistic_85 ?_
            replace hf := gBd_x hf
            obtain ⟨k35, ek35, hf⟩ := hf
            have jk35 : ∀ (x37 : Int32) (x38 : Int32) (x39 : Int32) (x40 : Int32) (x41 : Int32) (x42 : Int32) (w36 : TS), k35 x37 x38 x39 x40 x41 x42 w36 = some (rr, ww) → gJ D dA A K p l e R s m args below meth c (gEnd D dA A K below args s (twOf wb ad w0) (some (gi rr)) (twOf wb ad ww)) 7 125 [(0, (ga (some (ad 0)))), (1, (gi x37)), (2, (gi x38)), (3, (gi x39)), (4, (gi x40)), (5, (gi x41))] [(gi x42)] (twOf wb ad w36) := by
              intro x37 x38 x39 x40 x41 x42 w36 hf
              rw [ek35] at hf
              dsimp only at hf
              refine j_istore (lv' := [(6, (gi x42)), (0, (ga (some (ad 0)))), (1, (gi x37)), (2, (gi x38)), (3, (gi x39)), (4, (gi x40)), (5, (gi x41))]) C dX2_statistic_125 (by decide) rfl ?_
              refine j_iload C dX2_statistic_127 rfl ?_
              refine j_iload C dX2_statistic_129 rfl ?_
              replace hf := gBd_x hf
              obtain ⟨k43, ek43, hf⟩ := hf
              have jk43 : ∀ (x45 : Int32) (x46 : Int32) (x47 : Int32) (x48 : Int32) (x49 : Int32) (x50 : Int32) (w44 : TS), k43 x45 x46 x47 x48 x49 x50 w44 = some (rr, ww) → gJ D dA A K p l e R s m args below meth c (gEnd D dA A K below args s (twOf wb ad w0) (some (gi rr)) (twOf wb ad ww)) 7 161 [(0, (ga (some (ad 0)))), (1, (gi x45)), (2, (gi x46)), (3, (gi x47)), (5, (gi x48))] [(gi x50), (gi x49)] (twOf wb ad w44) := by
                intro x45 x46 x47 x48 x49 x50 w44 hf
                rw [ek43] at hf
                dsimp only at hf
                refine j_iadd C dX2_statistic_161 ?_
                replace hf := gBd_x hf
                obtain ⟨x51, ex51, hf⟩ := hf
                refine j_nm ex51 ?_
                refine j_istore (lv' := [(4, (gi x51)), (0, (ga (some (ad 0)))), (1, (gi x45)), (2, (gi x46)), (3, (gi x47)), (5, (gi x48))]) C dX2_statistic_162 (by decide) rfl ?_
                replace hf := gBd_x hf
                obtain ⟨x52, ex52, hf⟩ := hf
                refine j_iinc (v := x52) (lv' := [(5, (gi x52)), (4, (gi x51)), (0, (ga (some (ad 0)))), (1, (gi x45)), (2, (gi x46)), (3, (gi x47))]) C dX2_statistic_164 rfl (by rw [ex52]; rfl) (by decide) rfl ?_
                refine j_goto (tgt := 75) C dX2_statistic_167 (by decide) ?_
                refine j_sub (lv' := [(0, (ga (some (ad 0)))), (1, (gi x45)), (2, (gi x46)), (3, (gi x47)), (4, (gi x51)), (5, (gi x52))]) (gL_cons rfl (gL_cons rfl (gL_cons rfl (gL_cons rfl (gL_cons rfl (gL_cons rfl (gL_nil))))))) ?_
                exact jk22 _ _ _ _ _ _ hf
              clear ek43
              refine j_if_eq (tgt := 160) C dX2_statistic_131 (by decide) (fun c53 => ?_) (fun c53 => ?_)
              · replace hf := gIf_t hf c53
                refine j_iconst (v := (nI 0)) C dX2_statistic_160 (by decide) ?_
                refine j_sub (lv' := [(0, (ga (some (ad 0)))), (1, (gi x37)), (2, (gi x38)), (3, (gi x39)), (5, (gi x41))]) (gL_cons rfl (gL_cons rfl (gL_cons rfl (gL_cons rfl (gL_cons rfl (gL_nil)))))) ?_
                exact jk43 _ _ _ _ _ _ _ hf
              · replace hf := gIf_f hf c53
                refine j_aload_n C dX2_statistic_134 rfl ?_
                refine j_get (v := (ga (some (ad 5)))) C fl_X2_22_2 dX2_statistic_135 (tw_F hinj rfl) ?_
                refine j_iload C dX2_statistic_138 rfl ?_
                refine j_iconst (v := (nI 5)) C dX2_statistic_140 (by decide) ?_
                replace hf := gB2_e hf
                obtain ⟨x55, w54, ew54, hf⟩ := hf
                refine j_callS (As := [(gi x41), (gi (nI 5))]) (rest := [(ga (some (ad 5))), (gi x40)]) (v := (some (gi x55))) C (by omega) (kt_X2_of hinj (by omega) ew54) q1798 q1799 q93 q1800 hd_X2_of (by decide) rfl (Nat.le_of_ble_eq_true rfl) dX2_statistic_141 ?_
                replace hf := gB1_e hf
                obtain ⟨x56, ex56, hf⟩ := hf
                refine j_iald C (tw_ld hinj ex56) dX2_statistic_144 ?_
                refine j_aload_n C dX2_statistic_145 rfl ?_
                refine j_get (v := (ga (some (ad 5)))) C fl_X2_22_2 dX2_statistic_146 (tw_F hinj rfl) ?_
                refine j_iload C dX2_statistic_149 rfl ?_
                refine j_iconst (v := (nI 4)) C dX2_statistic_151 (by decide) ?_
                replace hf := gB2_e hf
                obtain ⟨x58, w57, ew57, hf⟩ := hf
                refine j_callS (As := [(gi x41), (gi (nI 4))]) (rest := [(ga (some (ad 5))), (gi x56), (gi x40)]) (v := (some (gi x58))) C (by omega) (kt_X2_of hinj (by omega) ew57) q1798 q1799 q93 q1800 hd_X2_of (by decide) rfl (Nat.le_of_ble_eq_true rfl) dX2_statistic_152 ?_
                replace hf := gB1_e hf
                obtain ⟨x59, ex59, hf⟩ := hf
                refine j_iald C (tw_ld hinj ex59) dX2_statistic_155 ?_
                refine j_isub C dX2_statistic_156 ?_
                refine j_goto (tgt := 161) C dX2_statistic_157 (by decide) ?_
                refine j_sub (lv' := [(0, (ga (some (ad 0)))), (1, (gi x37)), (2, (gi x38)), (3, (gi x39)), (5, (gi x41))]) (gL_cons rfl (gL_cons rfl (gL_cons rfl (gL_cons rfl (gL_cons rfl (gL_nil)))))) ?_
                exact jk43 _ _ _ _ _ _ _ hf
            clear ek35
            replace hf := gBd_x hf
            obtain ⟨k60, ek60, hf⟩ := hf
            have jk60 : ∀ (x62 : Int32) (x63 : Int32) (x64 : Int32) (x65 : Int32) (x66 : Int32) (w61 : TS), k60 x62 x63 x64 x65 x66 w61 = some (rr, ww) → gJ D dA A K p l e R s m args below meth c (gEnd D dA A K below args s (twOf wb ad w0) (some (gi rr)) (twOf wb ad ww)) 7 124 [(0, (ga (some (ad 0)))), (1, (gi x62)), (2, (gi x63)), (3, (gi x64)), (4, (gi x65)), (5, (gi x66))] [] (twOf wb ad w61) := by
              intro x62 x63 x64 x65 x66 w61 hf
              rw [ek60] at hf
              dsimp only at hf
              refine j_iconst (v := (nI 0)) C dX2_statistic_124 (by decide) ?_
              exact jk35 _ _ _ _ _ _ _ hf
            clear ek60
            refine j_if_eq (tgt := 124) C dX2_statistic_88 (by decide) (fun c67 => ?_) (fun c67 => ?_)
            · replace hf := gIf_t hf c67
              exact jk60 _ _ _ _ _ _ hf
            · replace hf := gIf_f hf c67
              refine j_aload_n C dX2_statistic_91 rfl ?_
              refine j_get (v := (ga (some (ad 5)))) C fl_X2_22_2 dX2_statistic_92 (tw_F hinj rfl) ?_
              refine j_iload C dX2_statistic_95 rfl ?_
              refine j_iconst (v := (nI 2)) C dX2_statistic_97 (by decide) ?_
              replace hf := gB2_e hf
              obtain ⟨x69, w68, ew68, hf⟩ := hf
              refine j_callS (As := [(gi x21), (gi (nI 2))]) (rest := [(ga (some (ad 5)))]) (v := (some (gi x69))) C (by omega) (kt_X2_of hinj (by omega) ew68) q1798 q1799 q93 q1800 hd_X2_of (by decide) rfl (Nat.le_of_ble_eq_true rfl) dX2_statistic_98 ?_
              replace hf := gB1_e hf
              obtain ⟨x70, ex70, hf⟩ := hf
              refine j_iald C (tw_ld hinj ex70) dX2_statistic_101 ?_
              refine j_iload_n C dX2_statistic_102 rfl ?_
              refine j_icmp_ne (tgt := 124) C dX2_statistic_103 (by decide) (fun c71 => ?_) (fun c71 => ?_)
              · replace hf := gIf_f hf c71
                exact jk60 _ _ _ _ _ _ hf
              · replace hf := gIf_t hf c71
                refine j_aload_n C dX2_statistic_106 rfl ?_
                refine j_get (v := (ga (some (ad 5)))) C fl_X2_22_2 dX2_statistic_107 (tw_F hinj rfl) ?_
                refine j_iload C dX2_statistic_110 rfl ?_
                refine j_iconst (v := (nI 5)) C dX2_statistic_112 (by decide) ?_
                replace hf := gB2_e hf
                obtain ⟨x73, w72, ew72, hf⟩ := hf
                refine j_callS (As := [(gi x21), (gi (nI 5))]) (rest := [(ga (some (ad 5)))]) (v := (some (gi x73))) C (by omega) (kt_X2_of hinj (by omega) ew72) q1798 q1799 q93 q1800 hd_X2_of (by decide) rfl (Nat.le_of_ble_eq_true rfl) dX2_statistic_113 ?_
                replace hf := gB1_e hf
                obtain ⟨x74, ex74, hf⟩ := hf
                refine j_iald C (tw_ld hinj ex74) dX2_statistic_116 ?_
                refine j_if_lt (tgt := 124) C dX2_statistic_117 (by decide) (fun c75 => ?_) (fun c75 => ?_)
                · replace hf := gIf_t hf c75
                  exact jk60 _ _ _ _ _ _ hf
                · replace hf := gIf_f hf c75
                  refine j_iconst (v := (nI 1)) C dX2_statistic_120 (by decide) ?_
                  refine j_goto (tgt := 125) C dX2_statistic_121 (by decide) ?_
                  exact jk35 _ _ _ _ _ _ _ hf
        · replace hf := gIf_t hf c15
          refine j_bipush (v := (-5)) C dX2_statistic_66 (by decide) ?_
          obtain ⟨rfl, rfl⟩ := gSome hf
          exact j_iret C hr hw dX2_statistic_68
      · replace hf := gIf_f hf c7
        refine j_aload_n C dX2_statistic_25 rfl ?_
        refine j_iload_n C dX2_statistic_26 rfl ?_
        refine j_iload_n C dX2_statistic_27 rfl ?_
        refine j_iconst (v := (nI 5)) C dX2_statistic_28 (by decide) ?_
        replace hf := gBd_x hf
        obtain ⟨k76, ek76, hf⟩ := hf
        have jk76 : ∀ (x78 : Int32) (x79 : Int32) (w77 : TS), k76 x78 x79 w77 = some (rr, ww) → gJ D dA A K p l e R s m args below meth c (gEnd D dA A K below args s (twOf wb ad w0) (some (gi rr)) (twOf wb ad ww)) 7 37 [] [(gi x79), (gi x78), (ga (some (ad 0)))] (twOf wb ad w77) := by
          intro x78 x79 w77 hf
          rw [ek76] at hf
          dsimp only at hf
          replace hf := gB2_e hf
          obtain ⟨x81, w80, ew80, hf⟩ := hf
          refine j_callV (As := [(gi x78), (gi x79)]) (rest := []) (v := (some (gi x81))) C (by omega) (kt_X2_instancesOf hinj (by omega) ew80) (tw_cls hinj) rfl q1969 q1971 qs87 q93 q1972 ⟨rfl, hd_X2_instancesOf⟩ (by decide) rfl (Nat.le_of_ble_eq_true rfl) dX2_statistic_37 ?_
          obtain ⟨rfl, rfl⟩ := gSome hf
          exact j_iret C hr hw dX2_statistic_40
        clear ek76
        refine j_icmp_ge (tgt := 36) C dX2_statistic_29 (by decide) (fun c82 => ?_) (fun c82 => ?_)
        · replace hf := gIf_t hf c82
          refine j_iconst (v := (-1)) C dX2_statistic_36 (by decide) ?_
          refine j_sub (lv' := []) (gL_nil) ?_
          exact jk76 _ _ _ hf
        · replace hf := gIf_f hf c82
          refine j_iload_n C dX2_statistic_32 rfl ?_
          refine j_goto (tgt := 37) C dX2_statistic_33 (by decide) ?_
          refine j_sub (lv' := []) (gL_nil) ?_
          exact jk76 _ _ _ hf
    · replace hf := gIf_t hf c6
      refine j_iconst (v := (-1)) C dX2_statistic_17 (by decide) ?_
      obtain ⟨rfl, rfl⟩ := gSome hf
      exact j_iret C hr hw dX2_statistic_18
def dkwX2_image_2 : List UInt8 := [181, 1, 22, 42, 42, 180, 0, 141, 181, 1, 25, 42, 4, 181, 1, 28, 42, 182, 0, 236, 172]
abbrev dktX2_image_2 : List UInt8 := dkwX2_image_2 ++ []
def dkwX2_image_1 : List UInt8 := [17, 38, 64, 184, 1, 6, 42, 180, 0, 16, 42, 180, 0, 19, 16, 68, 184, 1, 6, 42, 42, 180, 0, 34]
abbrev dktX2_image_1 : List UInt8 := dkwX2_image_1 ++ dktX2_image_2
def dkwX2_image_0 : List UInt8 := [42, 180, 0, 22, 42, 180, 0, 25, 17, 29, 169, 184, 1, 6, 42, 180, 0, 9, 42, 180, 0, 13]
abbrev dktX2_image_0 : List UInt8 := dkwX2_image_0 ++ dktX2_image_1
theorem dksX2_image_0 : cX2_image.data.toList.drop 0 = dktX2_image_0 := by decide +kernel
theorem dksX2_image_1 : cX2_image.data.toList.drop 22 = dktX2_image_1 := dk_seg dksX2_image_0 22 rfl rfl
theorem dksX2_image_2 : cX2_image.data.toList.drop 46 = dktX2_image_2 := dk_seg dksX2_image_1 24 rfl rfl
theorem dX2_image_0 : decode cX2_image 0 = .ok (.aload_n 0, 1) := dk_42 (dk_at dksX2_image_0 0 rfl rfl)
theorem dX2_image_1 : decode cX2_image 1 = .ok (.getfield 22, 3) := dk_180 0 22 (dk_at dksX2_image_0 1 rfl rfl)
theorem dX2_image_4 : decode cX2_image 4 = .ok (.aload_n 0, 1) := dk_42 (dk_at dksX2_image_0 4 rfl rfl)
theorem dX2_image_5 : decode cX2_image 5 = .ok (.getfield 25, 3) := dk_180 0 25 (dk_at dksX2_image_0 5 rfl rfl)
theorem dX2_image_8 : decode cX2_image 8 = .ok (.sipush 7593, 3) := dk_17 29 169 (dk_at dksX2_image_0 8 rfl rfl)
theorem dX2_image_11 : decode cX2_image 11 = .ok (.invokestatic 262, 3) := dk_184 1 6 (dk_at dksX2_image_0 11 rfl rfl)
theorem dX2_image_14 : decode cX2_image 14 = .ok (.aload_n 0, 1) := dk_42 (dk_at dksX2_image_0 14 rfl rfl)
theorem dX2_image_15 : decode cX2_image 15 = .ok (.getfield 9, 3) := dk_180 0 9 (dk_at dksX2_image_0 15 rfl rfl)
theorem dX2_image_18 : decode cX2_image 18 = .ok (.aload_n 0, 1) := dk_42 (dk_at dksX2_image_0 18 rfl rfl)
theorem dX2_image_19 : decode cX2_image 19 = .ok (.getfield 13, 3) := dk_180 0 13 (dk_at dksX2_image_0 19 rfl rfl)
theorem dX2_image_22 : decode cX2_image 22 = .ok (.sipush 9792, 3) := dk_17 38 64 (dk_at dksX2_image_1 0 rfl rfl)
theorem dX2_image_25 : decode cX2_image 25 = .ok (.invokestatic 262, 3) := dk_184 1 6 (dk_at dksX2_image_1 3 rfl rfl)
theorem dX2_image_28 : decode cX2_image 28 = .ok (.aload_n 0, 1) := dk_42 (dk_at dksX2_image_1 6 rfl rfl)
theorem dX2_image_29 : decode cX2_image 29 = .ok (.getfield 16, 3) := dk_180 0 16 (dk_at dksX2_image_1 7 rfl rfl)
theorem dX2_image_32 : decode cX2_image 32 = .ok (.aload_n 0, 1) := dk_42 (dk_at dksX2_image_1 10 rfl rfl)
theorem dX2_image_33 : decode cX2_image 33 = .ok (.getfield 19, 3) := dk_180 0 19 (dk_at dksX2_image_1 11 rfl rfl)
theorem dX2_image_36 : decode cX2_image 36 = .ok (.bipush 68, 2) := dk_16 68 (dk_at dksX2_image_1 14 rfl rfl)
theorem dX2_image_38 : decode cX2_image 38 = .ok (.invokestatic 262, 3) := dk_184 1 6 (dk_at dksX2_image_1 16 rfl rfl)
theorem dX2_image_41 : decode cX2_image 41 = .ok (.aload_n 0, 1) := dk_42 (dk_at dksX2_image_1 19 rfl rfl)
theorem dX2_image_42 : decode cX2_image 42 = .ok (.aload_n 0, 1) := dk_42 (dk_at dksX2_image_1 20 rfl rfl)
theorem dX2_image_43 : decode cX2_image 43 = .ok (.getfield 34, 3) := dk_180 0 34 (dk_at dksX2_image_1 21 rfl rfl)
theorem dX2_image_46 : decode cX2_image 46 = .ok (.putfield 278, 3) := dk_181 1 22 (dk_at dksX2_image_2 0 rfl rfl)
theorem dX2_image_49 : decode cX2_image 49 = .ok (.aload_n 0, 1) := dk_42 (dk_at dksX2_image_2 3 rfl rfl)
theorem dX2_image_50 : decode cX2_image 50 = .ok (.aload_n 0, 1) := dk_42 (dk_at dksX2_image_2 4 rfl rfl)
theorem dX2_image_51 : decode cX2_image 51 = .ok (.getfield 141, 3) := dk_180 0 141 (dk_at dksX2_image_2 5 rfl rfl)
theorem dX2_image_54 : decode cX2_image 54 = .ok (.putfield 281, 3) := dk_181 1 25 (dk_at dksX2_image_2 8 rfl rfl)
theorem dX2_image_57 : decode cX2_image 57 = .ok (.aload_n 0, 1) := dk_42 (dk_at dksX2_image_2 11 rfl rfl)
theorem dX2_image_58 : decode cX2_image 58 = .ok (.iconst 1, 1) := dk_4 (dk_at dksX2_image_2 12 rfl rfl)
theorem dX2_image_59 : decode cX2_image 59 = .ok (.putfield 284, 3) := dk_181 1 28 (dk_at dksX2_image_2 13 rfl rfl)
theorem dX2_image_62 : decode cX2_image 62 = .ok (.aload_n 0, 1) := dk_42 (dk_at dksX2_image_2 16 rfl rfl)
theorem dX2_image_63 : decode cX2_image 63 = .ok (.invokevirtual 236, 3) := dk_182 0 236 (dk_at dksX2_image_2 17 rfl rfl)
theorem dX2_image_66 : decode cX2_image 66 = .ok (.ireturn, 1) := dk_172 (dk_at dksX2_image_2 20 rfl rfl)
theorem hd_X2_copies : (yX2_copies.cls ≠ "java/lang/invoke/MethodHandle" ∧ yX2_copies.cls ≠ "java/lang/invoke/VarHandle" ∧ (parseMethodDescriptor yX2_copies.desc).map (fun d => d.parameters.length) = some 3) := ⟨by decide +kernel, by decide +kernel, by decide +kernel⟩
theorem fl_X2_278_2 : gFL RX2 278 2 19 := gFL.mk (Cn := RX2) (T := TX2) (N := 21) (ref := "WorkflowEngineModel") rfl in_X2 (by decide) q1613 rfl rfl (Or.inl rfl)
theorem fk_2_19 : gFk 2 19 "I" false "WorkflowEngineModel" := fun Cn T N h => by
  have h : (RX2, TX2, 21) = (Cn, T, N) := Option.some.inj h
  cases h
  exact ⟨rfl, rfl, rfl⟩
theorem fl_X2_281_2 : gFL RX2 281 2 20 := gFL.mk (Cn := RX2) (T := TX2) (N := 21) (ref := "WorkflowEngineModel") rfl in_X2 (by decide) q1614 rfl rfl (Or.inl rfl)
theorem fk_2_20 : gFk 2 20 "I" false "WorkflowEngineModel" := fun Cn T N h => by
  have h : (RX2, TX2, 21) = (Cn, T, N) := Option.some.inj h
  cases h
  exact ⟨rfl, rfl, rfl⟩
theorem fl_X2_284_2 : gFL RX2 284 2 7 := gFL.mk (Cn := RX2) (T := TX2) (N := 21) (ref := "WorkflowEngineModel") rfl in_X2 (by decide) q1601 rfl rfl (Or.inl rfl)
theorem fk_2_7 : gFk 2 7 "Z" false "WorkflowEngineModel" := fun Cn T N h => by
  have h : (RX2, TX2, 21) = (Cn, T, N) := Option.some.inj h
  cases h
  exact ⟨rfl, rfl, rfl⟩
theorem hd_X2_instances : (yX2_instances.cls ≠ "java/lang/invoke/MethodHandle" ∧ yX2_instances.cls ≠ "java/lang/invoke/VarHandle" ∧ (parseMethodDescriptor yX2_instances.desc).map (fun d => d.parameters.length) = some 0) := ⟨by decide +kernel, by decide +kernel, by decide +kernel⟩
def t_X2_image  (w0 : TS) : Option (Int32 × TS) := gB2 (t_X2_copies 5 6 (nI 7593) w0) fun _ w1 => gB2 (t_X2_copies 1 2 (nI 9792) w1) fun _ w2 => gB2 (t_X2_copies 3 4 (nI 68) w2) fun _ w3 => gBd (tPut w3 19 (w3 0 10)) fun w4 => gBd (tPut w4 20 (w4 0 11)) fun w5 => gBd (tPut w5 7 (nI 1)) fun w6 => gB2 (t_X2_instances  w6) fun x8 w7 => some (x8, w7)
set_option maxHeartbeats 4000000 in
set_option maxRecDepth 100000 in
theorem kt_X2_image {D : va_G} {dA : Nat → ClassId} {A : Nat → Prop} {K : Nat → Nat} {l : Launch} {wb : gw} {ad : Nat → Nat} (hinj : tInj ad) {h : Nat} (hh : 2 ≤ h)  {w0 ww : TS} {rr : Int32} (hf : t_X2_image  w0 = some (rr, ww)) : gMet D dA A K l yX2_image (ws_ yX2_image cX2_image 1 (some .int)) h [(ga (some (ad 0)))] (some (gi rr)) (twOf wb ad w0) (twOf wb ad ww) := by
  refine j_start (own := RX2) (by decide +kernel) rfl (Nat.le_of_ble_eq_true rfl) ?_
  intro p e R s m args below meth c C hr hin hw
  unfold t_X2_image at hf
  show gJ D dA A K p l e R s m args below meth c (gEnd D dA A K below args s (twOf wb ad w0) (some (gi rr)) (twOf wb ad ww)) 1 0 [(0, (ga (some (ad 0))))] [] (twOf wb ad w0)
  refine j_aload_n C dX2_image_0 rfl ?_
  refine j_get (v := (ga (some (ad 5)))) C fl_X2_22_2 dX2_image_1 (tw_F hinj rfl) ?_
  refine j_aload_n C dX2_image_4 rfl ?_
  refine j_get (v := (ga (some (ad 6)))) C fl_X2_25_2 dX2_image_5 (tw_F hinj rfl) ?_
  refine j_sipush (v := (nI 7593)) C dX2_image_8 (by decide) ?_
  replace hf := gB2_e hf
  obtain ⟨_, w1, ew1, hf⟩ := hf
  refine j_callS (As := [(ga (some (ad 5))), (ga (some (ad 6))), (gi (nI 7593))]) (rest := []) (v := none) C (by omega) (kt_X2_copies hinj (by omega) ew1) q1954 q1955 q93 q1956 hd_X2_copies (by decide) rfl (Nat.le_of_ble_eq_true rfl) dX2_image_11 ?_
  refine j_aload_n C dX2_image_14 rfl ?_
  refine j_get (v := (ga (some (ad 1)))) C fl_X2_9_2 dX2_image_15 (tw_F hinj rfl) ?_
  refine j_aload_n C dX2_image_18 rfl ?_
  refine j_get (v := (ga (some (ad 2)))) C fl_X2_13_2 dX2_image_19 (tw_F hinj rfl) ?_
  refine j_sipush (v := (nI 9792)) C dX2_image_22 (by decide) ?_
  replace hf := gB2_e hf
  obtain ⟨_, w2, ew2, hf⟩ := hf
  refine j_callS (As := [(ga (some (ad 1))), (ga (some (ad 2))), (gi (nI 9792))]) (rest := []) (v := none) C (by omega) (kt_X2_copies hinj (by omega) ew2) q1954 q1955 q93 q1956 hd_X2_copies (by decide) rfl (Nat.le_of_ble_eq_true rfl) dX2_image_25 ?_
  refine j_aload_n C dX2_image_28 rfl ?_
  refine j_get (v := (ga (some (ad 3)))) C fl_X2_16_2 dX2_image_29 (tw_F hinj rfl) ?_
  refine j_aload_n C dX2_image_32 rfl ?_
  refine j_get (v := (ga (some (ad 4)))) C fl_X2_19_2 dX2_image_33 (tw_F hinj rfl) ?_
  refine j_bipush (v := (nI 68)) C dX2_image_36 (by decide) ?_
  replace hf := gB2_e hf
  obtain ⟨_, w3, ew3, hf⟩ := hf
  refine j_callS (As := [(ga (some (ad 3))), (ga (some (ad 4))), (gi (nI 68))]) (rest := []) (v := none) C (by omega) (kt_X2_copies hinj (by omega) ew3) q1954 q1955 q93 q1956 hd_X2_copies (by decide) rfl (Nat.le_of_ble_eq_true rfl) dX2_image_38 ?_
  refine j_aload_n C dX2_image_41 rfl ?_
  refine j_aload_n C dX2_image_42 rfl ?_
  refine j_get (v := (gi (w3 0 10))) C fl_X2_34_2 dX2_image_43 (tw_F hinj rfl) ?_
  replace hf := gBd_x hf
  obtain ⟨w4, ew4, hf⟩ := hf
  refine j_put C fl_X2_278_2 tb_2 (tw_put hinj ew4 rfl (by decide)) fk_2_19 (fit_I (w3 0 10)) dX2_image_46 ?_
  refine j_aload_n C dX2_image_49 rfl ?_
  refine j_aload_n C dX2_image_50 rfl ?_
  refine j_get (v := (gi (w4 0 11))) C fl_X2_141_2 dX2_image_51 (tw_F hinj rfl) ?_
  replace hf := gBd_x hf
  obtain ⟨w5, ew5, hf⟩ := hf
  refine j_put C fl_X2_281_2 tb_2 (tw_put hinj ew5 rfl (by decide)) fk_2_20 (fit_I (w4 0 11)) dX2_image_54 ?_
  refine j_aload_n C dX2_image_57 rfl ?_
  refine j_iconst (v := (nI 1)) C dX2_image_58 (by decide) ?_
  replace hf := gBd_x hf
  obtain ⟨w6, ew6, hf⟩ := hf
  refine j_put C fl_X2_284_2 tb_2 (tw_put hinj ew6 rfl (by decide)) fk_2_7 (fit_Z (by decide)) dX2_image_59 ?_
  refine j_aload_n C dX2_image_62 rfl ?_
  replace hf := gB2_e hf
  obtain ⟨x8, w7, ew7, hf⟩ := hf
  refine j_callV (As := []) (rest := []) (v := (some (gi x8))) C (by omega) (kt_X2_instances hinj (by omega) ew7) (tw_cls hinj) rfl q1794 q1796 qs57 q93 q1797 ⟨rfl, hd_X2_instances⟩ (by decide) rfl (Nat.le_of_ble_eq_true rfl) dX2_image_63 ?_
  obtain ⟨rfl, rfl⟩ := gSome hf
  exact j_iret C hr hw dX2_image_66
def dkwX2_undo_2 : List UInt8 := [184, 1, 6, 42, 42, 180, 1, 22, 181, 0, 34, 42, 42, 180, 1, 25, 181, 0, 141, 42, 182, 0, 236, 172]
abbrev dktX2_undo_2 : List UInt8 := dkwX2_undo_2 ++ []
def dkwX2_undo_1 : List UInt8 := [42, 180, 0, 13, 42, 180, 0, 9, 17, 38, 64, 184, 1, 6, 42, 180, 0, 19, 42, 180, 0, 16, 16, 68]
abbrev dktX2_undo_1 : List UInt8 := dkwX2_undo_1 ++ dktX2_undo_2
def dkwX2_undo_0 : List UInt8 := [42, 180, 1, 28, 154, 0, 6, 16, 253, 172, 42, 180, 0, 25, 42, 180, 0, 22, 17, 29, 169, 184, 1, 6]
abbrev dktX2_undo_0 : List UInt8 := dkwX2_undo_0 ++ dktX2_undo_1
theorem dksX2_undo_0 : cX2_undo.data.toList.drop 0 = dktX2_undo_0 := by decide +kernel
theorem dksX2_undo_1 : cX2_undo.data.toList.drop 24 = dktX2_undo_1 := dk_seg dksX2_undo_0 24 rfl rfl
theorem dksX2_undo_2 : cX2_undo.data.toList.drop 48 = dktX2_undo_2 := dk_seg dksX2_undo_1 24 rfl rfl
theorem dX2_undo_0 : decode cX2_undo 0 = .ok (.aload_n 0, 1) := dk_42 (dk_at dksX2_undo_0 0 rfl rfl)
theorem dX2_undo_1 : decode cX2_undo 1 = .ok (.getfield 284, 3) := dk_180 1 28 (dk_at dksX2_undo_0 1 rfl rfl)
theorem dX2_undo_4 : decode cX2_undo 4 = .ok (.ifCond .ne 6, 3) := dk_154 0 6 (dk_at dksX2_undo_0 4 rfl rfl)
theorem dX2_undo_7 : decode cX2_undo 7 = .ok (.bipush (-3), 2) := dk_16 253 (dk_at dksX2_undo_0 7 rfl rfl)
theorem dX2_undo_9 : decode cX2_undo 9 = .ok (.ireturn, 1) := dk_172 (dk_at dksX2_undo_0 9 rfl rfl)
theorem dX2_undo_10 : decode cX2_undo 10 = .ok (.aload_n 0, 1) := dk_42 (dk_at dksX2_undo_0 10 rfl rfl)
theorem dX2_undo_11 : decode cX2_undo 11 = .ok (.getfield 25, 3) := dk_180 0 25 (dk_at dksX2_undo_0 11 rfl rfl)
theorem dX2_undo_14 : decode cX2_undo 14 = .ok (.aload_n 0, 1) := dk_42 (dk_at dksX2_undo_0 14 rfl rfl)
theorem dX2_undo_15 : decode cX2_undo 15 = .ok (.getfield 22, 3) := dk_180 0 22 (dk_at dksX2_undo_0 15 rfl rfl)
theorem dX2_undo_18 : decode cX2_undo 18 = .ok (.sipush 7593, 3) := dk_17 29 169 (dk_at dksX2_undo_0 18 rfl rfl)
theorem dX2_undo_21 : decode cX2_undo 21 = .ok (.invokestatic 262, 3) := dk_184 1 6 (dk_at dksX2_undo_0 21 rfl rfl)
theorem dX2_undo_24 : decode cX2_undo 24 = .ok (.aload_n 0, 1) := dk_42 (dk_at dksX2_undo_1 0 rfl rfl)
theorem dX2_undo_25 : decode cX2_undo 25 = .ok (.getfield 13, 3) := dk_180 0 13 (dk_at dksX2_undo_1 1 rfl rfl)
theorem dX2_undo_28 : decode cX2_undo 28 = .ok (.aload_n 0, 1) := dk_42 (dk_at dksX2_undo_1 4 rfl rfl)
theorem dX2_undo_29 : decode cX2_undo 29 = .ok (.getfield 9, 3) := dk_180 0 9 (dk_at dksX2_undo_1 5 rfl rfl)
theorem dX2_undo_32 : decode cX2_undo 32 = .ok (.sipush 9792, 3) := dk_17 38 64 (dk_at dksX2_undo_1 8 rfl rfl)
theorem dX2_undo_35 : decode cX2_undo 35 = .ok (.invokestatic 262, 3) := dk_184 1 6 (dk_at dksX2_undo_1 11 rfl rfl)
theorem dX2_undo_38 : decode cX2_undo 38 = .ok (.aload_n 0, 1) := dk_42 (dk_at dksX2_undo_1 14 rfl rfl)
theorem dX2_undo_39 : decode cX2_undo 39 = .ok (.getfield 19, 3) := dk_180 0 19 (dk_at dksX2_undo_1 15 rfl rfl)
theorem dX2_undo_42 : decode cX2_undo 42 = .ok (.aload_n 0, 1) := dk_42 (dk_at dksX2_undo_1 18 rfl rfl)
theorem dX2_undo_43 : decode cX2_undo 43 = .ok (.getfield 16, 3) := dk_180 0 16 (dk_at dksX2_undo_1 19 rfl rfl)
theorem dX2_undo_46 : decode cX2_undo 46 = .ok (.bipush 68, 2) := dk_16 68 (dk_at dksX2_undo_1 22 rfl rfl)
theorem dX2_undo_48 : decode cX2_undo 48 = .ok (.invokestatic 262, 3) := dk_184 1 6 (dk_at dksX2_undo_2 0 rfl rfl)
theorem dX2_undo_51 : decode cX2_undo 51 = .ok (.aload_n 0, 1) := dk_42 (dk_at dksX2_undo_2 3 rfl rfl)
theorem dX2_undo_52 : decode cX2_undo 52 = .ok (.aload_n 0, 1) := dk_42 (dk_at dksX2_undo_2 4 rfl rfl)
theorem dX2_undo_53 : decode cX2_undo 53 = .ok (.getfield 278, 3) := dk_180 1 22 (dk_at dksX2_undo_2 5 rfl rfl)
theorem dX2_undo_56 : decode cX2_undo 56 = .ok (.putfield 34, 3) := dk_181 0 34 (dk_at dksX2_undo_2 8 rfl rfl)
theorem dX2_undo_59 : decode cX2_undo 59 = .ok (.aload_n 0, 1) := dk_42 (dk_at dksX2_undo_2 11 rfl rfl)
theorem dX2_undo_60 : decode cX2_undo 60 = .ok (.aload_n 0, 1) := dk_42 (dk_at dksX2_undo_2 12 rfl rfl)
theorem dX2_undo_61 : decode cX2_undo 61 = .ok (.getfield 281, 3) := dk_180 1 25 (dk_at dksX2_undo_2 13 rfl rfl)
theorem dX2_undo_64 : decode cX2_undo 64 = .ok (.putfield 141, 3) := dk_181 0 141 (dk_at dksX2_undo_2 16 rfl rfl)
theorem dX2_undo_67 : decode cX2_undo 67 = .ok (.aload_n 0, 1) := dk_42 (dk_at dksX2_undo_2 19 rfl rfl)
theorem dX2_undo_68 : decode cX2_undo 68 = .ok (.invokevirtual 236, 3) := dk_182 0 236 (dk_at dksX2_undo_2 20 rfl rfl)
theorem dX2_undo_71 : decode cX2_undo 71 = .ok (.ireturn, 1) := dk_172 (dk_at dksX2_undo_2 23 rfl rfl)
theorem fk_2_11 : gFk 2 11 "I" false "WorkflowEngineModel" := fun Cn T N h => by
  have h : (RX2, TX2, 21) = (Cn, T, N) := Option.some.inj h
  cases h
  exact ⟨rfl, rfl, rfl⟩
def t_X2_undo  (w0 : TS) : Option (Int32 × TS) := if (w0 0 7) = 0 then some ((-3), w0) else gB2 (t_X2_copies 6 5 (nI 7593) w0) fun _ w2 => gB2 (t_X2_copies 2 1 (nI 9792) w2) fun _ w3 => gB2 (t_X2_copies 4 3 (nI 68) w3) fun _ w4 => gBd (tPut w4 10 (w4 0 19)) fun w5 => gBd (tPut w5 11 (w5 0 20)) fun w6 => gB2 (t_X2_instances  w6) fun x8 w7 => some (x8, w7)
set_option maxHeartbeats 4000000 in
set_option maxRecDepth 100000 in
theorem kt_X2_undo {D : va_G} {dA : Nat → ClassId} {A : Nat → Prop} {K : Nat → Nat} {l : Launch} {wb : gw} {ad : Nat → Nat} (hinj : tInj ad) {h : Nat} (hh : 2 ≤ h)  {w0 ww : TS} {rr : Int32} (hf : t_X2_undo  w0 = some (rr, ww)) : gMet D dA A K l yX2_undo (ws_ yX2_undo cX2_undo 1 (some .int)) h [(ga (some (ad 0)))] (some (gi rr)) (twOf wb ad w0) (twOf wb ad ww) := by
  refine j_start (own := RX2) (by decide +kernel) rfl (Nat.le_of_ble_eq_true rfl) ?_
  intro p e R s m args below meth c C hr hin hw
  unfold t_X2_undo at hf
  show gJ D dA A K p l e R s m args below meth c (gEnd D dA A K below args s (twOf wb ad w0) (some (gi rr)) (twOf wb ad ww)) 1 0 [(0, (ga (some (ad 0))))] [] (twOf wb ad w0)
  refine j_aload_n C dX2_undo_0 rfl ?_
  refine j_get (v := (gi (w0 0 7))) C fl_X2_284_2 dX2_undo_1 (tw_F hinj rfl) ?_
  refine j_if_ne (tgt := 10) C dX2_undo_4 (by decide) (fun c1 => ?_) (fun c1 => ?_)
  · replace hf := gIf_f hf c1
    refine j_aload_n C dX2_undo_10 rfl ?_
    refine j_get (v := (ga (some (ad 6)))) C fl_X2_25_2 dX2_undo_11 (tw_F hinj rfl) ?_
    refine j_aload_n C dX2_undo_14 rfl ?_
    refine j_get (v := (ga (some (ad 5)))) C fl_X2_22_2 dX2_undo_15 (tw_F hinj rfl) ?_
    refine j_sipush (v := (nI 7593)) C dX2_undo_18 (by decide) ?_
    replace hf := gB2_e hf
    obtain ⟨_, w2, ew2, hf⟩ := hf
    refine j_callS (As := [(ga (some (ad 6))), (ga (some (ad 5))), (gi (nI 7593))]) (rest := []) (v := none) C (by omega) (kt_X2_copies hinj (by omega) ew2) q1954 q1955 q93 q1956 hd_X2_copies (by decide) rfl (Nat.le_of_ble_eq_true rfl) dX2_undo_21 ?_
    refine j_aload_n C dX2_undo_24 rfl ?_
    refine j_get (v := (ga (some (ad 2)))) C fl_X2_13_2 dX2_undo_25 (tw_F hinj rfl) ?_
    refine j_aload_n C dX2_undo_28 rfl ?_
    refine j_get (v := (ga (some (ad 1)))) C fl_X2_9_2 dX2_undo_29 (tw_F hinj rfl) ?_
    refine j_sipush (v := (nI 9792)) C dX2_undo_32 (by decide) ?_
    replace hf := gB2_e hf
    obtain ⟨_, w3, ew3, hf⟩ := hf
    refine j_callS (As := [(ga (some (ad 2))), (ga (some (ad 1))), (gi (nI 9792))]) (rest := []) (v := none) C (by omega) (kt_X2_copies hinj (by omega) ew3) q1954 q1955 q93 q1956 hd_X2_copies (by decide) rfl (Nat.le_of_ble_eq_true rfl) dX2_undo_35 ?_
    refine j_aload_n C dX2_undo_38 rfl ?_
    refine j_get (v := (ga (some (ad 4)))) C fl_X2_19_2 dX2_undo_39 (tw_F hinj rfl) ?_
    refine j_aload_n C dX2_undo_42 rfl ?_
    refine j_get (v := (ga (some (ad 3)))) C fl_X2_16_2 dX2_undo_43 (tw_F hinj rfl) ?_
    refine j_bipush (v := (nI 68)) C dX2_undo_46 (by decide) ?_
    replace hf := gB2_e hf
    obtain ⟨_, w4, ew4, hf⟩ := hf
    refine j_callS (As := [(ga (some (ad 4))), (ga (some (ad 3))), (gi (nI 68))]) (rest := []) (v := none) C (by omega) (kt_X2_copies hinj (by omega) ew4) q1954 q1955 q93 q1956 hd_X2_copies (by decide) rfl (Nat.le_of_ble_eq_true rfl) dX2_undo_48 ?_
    refine j_aload_n C dX2_undo_51 rfl ?_
    refine j_aload_n C dX2_undo_52 rfl ?_
    refine j_get (v := (gi (w4 0 19))) C fl_X2_278_2 dX2_undo_53 (tw_F hinj rfl) ?_
    replace hf := gBd_x hf
    obtain ⟨w5, ew5, hf⟩ := hf
    refine j_put C fl_X2_34_2 tb_2 (tw_put hinj ew5 rfl (by decide)) fk_2_10 (fit_I (w4 0 19)) dX2_undo_56 ?_
    refine j_aload_n C dX2_undo_59 rfl ?_
    refine j_aload_n C dX2_undo_60 rfl ?_
    refine j_get (v := (gi (w5 0 20))) C fl_X2_281_2 dX2_undo_61 (tw_F hinj rfl) ?_
    replace hf := gBd_x hf
    obtain ⟨w6, ew6, hf⟩ := hf
    refine j_put C fl_X2_141_2 tb_2 (tw_put hinj ew6 rfl (by decide)) fk_2_11 (fit_I (w5 0 20)) dX2_undo_64 ?_
    refine j_aload_n C dX2_undo_67 rfl ?_
    replace hf := gB2_e hf
    obtain ⟨x8, w7, ew7, hf⟩ := hf
    refine j_callV (As := []) (rest := []) (v := (some (gi x8))) C (by omega) (kt_X2_instances hinj (by omega) ew7) (tw_cls hinj) rfl q1794 q1796 qs57 q93 q1797 ⟨rfl, hd_X2_instances⟩ (by decide) rfl (Nat.le_of_ble_eq_true rfl) dX2_undo_68 ?_
    obtain ⟨rfl, rfl⟩ := gSome hf
    exact j_iret C hr hw dX2_undo_71
  · replace hf := gIf_t hf c1
    refine j_bipush (v := (-3)) C dX2_undo_7 (by decide) ?_
    obtain ⟨rfl, rfl⟩ := gSome hf
    exact j_iret C hr hw dX2_undo_9
def dkwX2_count_4 : List UInt8 := [42, 180, 0, 42, 172, 42, 182, 1, 35, 172, 2, 172]
abbrev dktX2_count_4 : List UInt8 := dkwX2_count_4 ++ []
def dkwX2_count_3 : List UInt8 := [42, 180, 0, 22, 3, 46, 172, 42, 182, 0, 236, 172, 42, 3, 182, 1, 32, 172, 42, 5, 182, 1, 32, 172]
abbrev dktX2_count_3 : List UInt8 := dkwX2_count_3 ++ dktX2_count_4
def dkwX2_count_2 : List UInt8 := [170, 0, 0, 0, 0, 0, 0, 74, 0, 0, 0, 0, 0, 0, 0, 5, 0, 0, 0, 40, 0, 0, 0, 47, 0, 0, 0, 52, 0, 0, 0, 58, 0, 0, 0, 64, 0, 0, 0, 69]
abbrev dktX2_count_2 : List UInt8 := dkwX2_count_2 ++ dktX2_count_3
def dkwX2_count_1 : List UInt8 := [16, 20, 16, 27, 184, 0, 38, 153, 0, 16, 42, 180, 0, 22, 16, 9, 27, 96, 16, 20, 100, 46, 172, 27]
abbrev dktX2_count_1 : List UInt8 := dkwX2_count_1 ++ dktX2_count_2
def dkwX2_count_0 : List UInt8 := [27, 16, 10, 16, 17, 184, 0, 38, 153, 0, 15, 42, 180, 0, 22, 4, 27, 96, 16, 10, 100, 46, 172, 27]
abbrev dktX2_count_0 : List UInt8 := dkwX2_count_0 ++ dktX2_count_1
theorem dksX2_count_0 : cX2_count.data.toList.drop 0 = dktX2_count_0 := by decide +kernel
theorem dksX2_count_1 : cX2_count.data.toList.drop 24 = dktX2_count_1 := dk_seg dksX2_count_0 24 rfl rfl
theorem dksX2_count_2 : cX2_count.data.toList.drop 48 = dktX2_count_2 := dk_seg dksX2_count_1 24 rfl rfl
theorem dksX2_count_3 : cX2_count.data.toList.drop 88 = dktX2_count_3 := dk_seg dksX2_count_2 40 rfl rfl
theorem dksX2_count_4 : cX2_count.data.toList.drop 112 = dktX2_count_4 := dk_seg dksX2_count_3 24 rfl rfl
theorem dX2_count_0 : decode cX2_count 0 = .ok (.iload_n 1, 1) := dk_27 (dk_at dksX2_count_0 0 rfl rfl)
theorem dX2_count_1 : decode cX2_count 1 = .ok (.bipush 10, 2) := dk_16 10 (dk_at dksX2_count_0 1 rfl rfl)
theorem dX2_count_3 : decode cX2_count 3 = .ok (.bipush 17, 2) := dk_16 17 (dk_at dksX2_count_0 3 rfl rfl)
theorem dX2_count_5 : decode cX2_count 5 = .ok (.invokestatic 38, 3) := dk_184 0 38 (dk_at dksX2_count_0 5 rfl rfl)
theorem dX2_count_8 : decode cX2_count 8 = .ok (.ifCond .eq 15, 3) := dk_153 0 15 (dk_at dksX2_count_0 8 rfl rfl)
theorem dX2_count_11 : decode cX2_count 11 = .ok (.aload_n 0, 1) := dk_42 (dk_at dksX2_count_0 11 rfl rfl)
theorem dX2_count_12 : decode cX2_count 12 = .ok (.getfield 22, 3) := dk_180 0 22 (dk_at dksX2_count_0 12 rfl rfl)
theorem dX2_count_15 : decode cX2_count 15 = .ok (.iconst 1, 1) := dk_4 (dk_at dksX2_count_0 15 rfl rfl)
theorem dX2_count_16 : decode cX2_count 16 = .ok (.iload_n 1, 1) := dk_27 (dk_at dksX2_count_0 16 rfl rfl)
theorem dX2_count_17 : decode cX2_count 17 = .ok (.iadd, 1) := dk_96 (dk_at dksX2_count_0 17 rfl rfl)
theorem dX2_count_18 : decode cX2_count 18 = .ok (.bipush 10, 2) := dk_16 10 (dk_at dksX2_count_0 18 rfl rfl)
theorem dX2_count_20 : decode cX2_count 20 = .ok (.isub, 1) := dk_100 (dk_at dksX2_count_0 20 rfl rfl)
theorem dX2_count_21 : decode cX2_count 21 = .ok (.iaload, 1) := dk_46 (dk_at dksX2_count_0 21 rfl rfl)
theorem dX2_count_22 : decode cX2_count 22 = .ok (.ireturn, 1) := dk_172 (dk_at dksX2_count_0 22 rfl rfl)
theorem dX2_count_23 : decode cX2_count 23 = .ok (.iload_n 1, 1) := dk_27 (dk_at dksX2_count_0 23 rfl rfl)
theorem dX2_count_24 : decode cX2_count 24 = .ok (.bipush 20, 2) := dk_16 20 (dk_at dksX2_count_1 0 rfl rfl)
theorem dX2_count_26 : decode cX2_count 26 = .ok (.bipush 27, 2) := dk_16 27 (dk_at dksX2_count_1 2 rfl rfl)
theorem dX2_count_28 : decode cX2_count 28 = .ok (.invokestatic 38, 3) := dk_184 0 38 (dk_at dksX2_count_1 4 rfl rfl)
theorem dX2_count_31 : decode cX2_count 31 = .ok (.ifCond .eq 16, 3) := dk_153 0 16 (dk_at dksX2_count_1 7 rfl rfl)
theorem dX2_count_34 : decode cX2_count 34 = .ok (.aload_n 0, 1) := dk_42 (dk_at dksX2_count_1 10 rfl rfl)
theorem dX2_count_35 : decode cX2_count 35 = .ok (.getfield 22, 3) := dk_180 0 22 (dk_at dksX2_count_1 11 rfl rfl)
theorem dX2_count_38 : decode cX2_count 38 = .ok (.bipush 9, 2) := dk_16 9 (dk_at dksX2_count_1 14 rfl rfl)
theorem dX2_count_40 : decode cX2_count 40 = .ok (.iload_n 1, 1) := dk_27 (dk_at dksX2_count_1 16 rfl rfl)
theorem dX2_count_41 : decode cX2_count 41 = .ok (.iadd, 1) := dk_96 (dk_at dksX2_count_1 17 rfl rfl)
theorem dX2_count_42 : decode cX2_count 42 = .ok (.bipush 20, 2) := dk_16 20 (dk_at dksX2_count_1 18 rfl rfl)
theorem dX2_count_44 : decode cX2_count 44 = .ok (.isub, 1) := dk_100 (dk_at dksX2_count_1 20 rfl rfl)
theorem dX2_count_45 : decode cX2_count 45 = .ok (.iaload, 1) := dk_46 (dk_at dksX2_count_1 21 rfl rfl)
theorem dX2_count_46 : decode cX2_count 46 = .ok (.ireturn, 1) := dk_172 (dk_at dksX2_count_1 22 rfl rfl)
theorem dX2_count_47 : decode cX2_count 47 = .ok (.iload_n 1, 1) := dk_27 (dk_at dksX2_count_1 23 rfl rfl)
theorem dX2_count_48 : decode cX2_count 48 = .ok (.tableswitch 74 0 5 #[40, 47, 52, 58, 64, 69], 40) := by decide +kernel
theorem dX2_count_88 : decode cX2_count 88 = .ok (.aload_n 0, 1) := dk_42 (dk_at dksX2_count_3 0 rfl rfl)
theorem dX2_count_89 : decode cX2_count 89 = .ok (.getfield 22, 3) := dk_180 0 22 (dk_at dksX2_count_3 1 rfl rfl)
theorem dX2_count_92 : decode cX2_count 92 = .ok (.iconst 0, 1) := dk_3 (dk_at dksX2_count_3 4 rfl rfl)
theorem dX2_count_93 : decode cX2_count 93 = .ok (.iaload, 1) := dk_46 (dk_at dksX2_count_3 5 rfl rfl)
theorem dX2_count_94 : decode cX2_count 94 = .ok (.ireturn, 1) := dk_172 (dk_at dksX2_count_3 6 rfl rfl)
theorem dX2_count_95 : decode cX2_count 95 = .ok (.aload_n 0, 1) := dk_42 (dk_at dksX2_count_3 7 rfl rfl)
theorem dX2_count_96 : decode cX2_count 96 = .ok (.invokevirtual 236, 3) := dk_182 0 236 (dk_at dksX2_count_3 8 rfl rfl)
theorem dX2_count_99 : decode cX2_count 99 = .ok (.ireturn, 1) := dk_172 (dk_at dksX2_count_3 11 rfl rfl)
theorem dX2_count_100 : decode cX2_count 100 = .ok (.aload_n 0, 1) := dk_42 (dk_at dksX2_count_3 12 rfl rfl)
theorem dX2_count_101 : decode cX2_count 101 = .ok (.iconst 0, 1) := dk_3 (dk_at dksX2_count_3 13 rfl rfl)
theorem dX2_count_102 : decode cX2_count 102 = .ok (.invokevirtual 288, 3) := dk_182 1 32 (dk_at dksX2_count_3 14 rfl rfl)
theorem dX2_count_105 : decode cX2_count 105 = .ok (.ireturn, 1) := dk_172 (dk_at dksX2_count_3 17 rfl rfl)
theorem dX2_count_106 : decode cX2_count 106 = .ok (.aload_n 0, 1) := dk_42 (dk_at dksX2_count_3 18 rfl rfl)
theorem dX2_count_107 : decode cX2_count 107 = .ok (.iconst 2, 1) := dk_5 (dk_at dksX2_count_3 19 rfl rfl)
theorem dX2_count_108 : decode cX2_count 108 = .ok (.invokevirtual 288, 3) := dk_182 1 32 (dk_at dksX2_count_3 20 rfl rfl)
theorem dX2_count_111 : decode cX2_count 111 = .ok (.ireturn, 1) := dk_172 (dk_at dksX2_count_3 23 rfl rfl)
theorem dX2_count_112 : decode cX2_count 112 = .ok (.aload_n 0, 1) := dk_42 (dk_at dksX2_count_4 0 rfl rfl)
theorem dX2_count_113 : decode cX2_count 113 = .ok (.getfield 42, 3) := dk_180 0 42 (dk_at dksX2_count_4 1 rfl rfl)
theorem dX2_count_116 : decode cX2_count 116 = .ok (.ireturn, 1) := dk_172 (dk_at dksX2_count_4 4 rfl rfl)
theorem dX2_count_117 : decode cX2_count 117 = .ok (.aload_n 0, 1) := dk_42 (dk_at dksX2_count_4 5 rfl rfl)
theorem dX2_count_118 : decode cX2_count 118 = .ok (.invokevirtual 291, 3) := dk_182 1 35 (dk_at dksX2_count_4 6 rfl rfl)
theorem dX2_count_121 : decode cX2_count 121 = .ok (.ireturn, 1) := dk_172 (dk_at dksX2_count_4 9 rfl rfl)
theorem dX2_count_122 : decode cX2_count 122 = .ok (.iconst (-1), 1) := dk_2 (dk_at dksX2_count_4 10 rfl rfl)
theorem dX2_count_123 : decode cX2_count 123 = .ok (.ireturn, 1) := dk_172 (dk_at dksX2_count_4 11 rfl rfl)
theorem hd_X2_withStatus : (yX2_withStatus.cls ≠ "java/lang/invoke/MethodHandle" ∧ yX2_withStatus.cls ≠ "java/lang/invoke/VarHandle" ∧ (parseMethodDescriptor yX2_withStatus.desc).map (fun d => d.parameters.length) = some 1) := ⟨by decide +kernel, by decide +kernel, by decide +kernel⟩
theorem hd_X2_versions : (yX2_versions.cls ≠ "java/lang/invoke/MethodHandle" ∧ yX2_versions.cls ≠ "java/lang/invoke/VarHandle" ∧ (parseMethodDescriptor yX2_versions.desc).map (fun d => d.parameters.length) = some 0) := ⟨by decide +kernel, by decide +kernel, by decide +kernel⟩
def t_X2_count (p1 : Int32) (w0 : TS) : Option (Int32 × TS) := gB2 (t_X2_isIn p1 (nI 10) (nI 17) w0) fun x2 w1 => if x2 = 0 then gB2 (t_X2_isIn p1 (nI 20) (nI 27) w1) fun x5 w4 => if x5 = 0 then if p1 = (nI 0) then gB1 (tLd w4 5 (nI 0)) fun x7 => some (x7, w4) else if p1 = (nI 1) then gB2 (t_X2_instances  w4) fun x9 w8 => some (x9, w8) else if p1 = (nI 2) then gB2 (t_X2_withStatus (nI 0) w4) fun x11 w10 => some (x11, w10) else if p1 = (nI 3) then gB2 (t_X2_withStatus (nI 2) w4) fun x13 w12 => some (x13, w12) else if p1 = (nI 4) then some ((w4 0 9), w4) else if p1 = (nI 5) then gB2 (t_X2_versions  w4) fun x15 w14 => some (x15, w14) else some ((-1), w4) else gB1 (tLd w4 5 (((nI 9) + p1) - (nI 20))) fun x16 => some (x16, w4) else gB1 (tLd w1 5 (((nI 1) + p1) - (nI 10))) fun x17 => some (x17, w1)
set_option maxHeartbeats 4000000 in
set_option maxRecDepth 100000 in
theorem kt_X2_count {D : va_G} {dA : Nat → ClassId} {A : Nat → Prop} {K : Nat → Nat} {l : Launch} {wb : gw} {ad : Nat → Nat} (hinj : tInj ad) {h : Nat} (hh : 4 ≤ h) {p1 : Int32} {w0 ww : TS} {rr : Int32} (hf : t_X2_count p1 w0 = some (rr, ww)) : gMet D dA A K l yX2_count (ws_ yX2_count cX2_count 2 (some .int)) h [(ga (some (ad 0))), (gi p1)] (some (gi rr)) (twOf wb ad w0) (twOf wb ad ww) := by
  refine j_start (own := RX2) (by decide +kernel) rfl (Nat.le_of_ble_eq_true rfl) ?_
  intro p e R s m args below meth c C hr hin hw
  unfold t_X2_count at hf
  show gJ D dA A K p l e R s m args below meth c (gEnd D dA A K below args s (twOf wb ad w0) (some (gi rr)) (twOf wb ad ww)) 2 0 [(0, (ga (some (ad 0)))), (1, (gi p1))] [] (twOf wb ad w0)
  refine j_iload_n C dX2_count_0 rfl ?_
  refine j_bipush (v := (nI 10)) C dX2_count_1 (by decide) ?_
  refine j_bipush (v := (nI 17)) C dX2_count_3 (by decide) ?_
  replace hf := gB2_e hf
  obtain ⟨x2, w1, ew1, hf⟩ := hf
  refine j_callS (As := [(gi p1), (gi (nI 10)), (gi (nI 17))]) (rest := []) (v := (some (gi x2))) C (by omega) (kt_X2_isIn hinj (by omega) ew1) q1662 q1663 q93 q1664 hd_X2_isIn (by decide) rfl (Nat.le_of_ble_eq_true rfl) dX2_count_5 ?_
  refine j_if_eq (tgt := 23) C dX2_count_8 (by decide) (fun c3 => ?_) (fun c3 => ?_)
  · replace hf := gIf_t hf c3
    refine j_iload_n C dX2_count_23 rfl ?_
    refine j_bipush (v := (nI 20)) C dX2_count_24 (by decide) ?_
    refine j_bipush (v := (nI 27)) C dX2_count_26 (by decide) ?_
    replace hf := gB2_e hf
    obtain ⟨x5, w4, ew4, hf⟩ := hf
    refine j_callS (As := [(gi p1), (gi (nI 20)), (gi (nI 27))]) (rest := []) (v := (some (gi x5))) C (by omega) (kt_X2_isIn hinj (by omega) ew4) q1662 q1663 q93 q1664 hd_X2_isIn (by decide) rfl (Nat.le_of_ble_eq_true rfl) dX2_count_28 ?_
    refine j_if_eq (tgt := 47) C dX2_count_31 (by decide) (fun c6 => ?_) (fun c6 => ?_)
    · replace hf := gIf_t hf c6
      refine j_iload_n C dX2_count_47 rfl ?_
      by_cases n48_0 : p1 = (nI 0)
      · replace hf := gIf_t hf n48_0
        refine j_tableIn (off := 40) (tgt := 88) C dX2_count_48 (by rw [n48_0]; decide) (by rw [n48_0]; decide) (by rw [n48_0]; decide) (by decide) ?_
        refine j_aload_n C dX2_count_88 rfl ?_
        refine j_get (v := (ga (some (ad 5)))) C fl_X2_22_2 dX2_count_89 (tw_F hinj rfl) ?_
        refine j_iconst (v := (nI 0)) C dX2_count_92 (by decide) ?_
        replace hf := gB1_e hf
        obtain ⟨x7, ex7, hf⟩ := hf
        refine j_iald C (tw_ld hinj ex7) dX2_count_93 ?_
        obtain ⟨rfl, rfl⟩ := gSome hf
        exact j_iret C hr hw dX2_count_94
      · replace hf := gIf_f hf n48_0
        by_cases n48_1 : p1 = (nI 1)
        · replace hf := gIf_t hf n48_1
          refine j_tableIn (off := 47) (tgt := 95) C dX2_count_48 (by rw [n48_1]; decide) (by rw [n48_1]; decide) (by rw [n48_1]; decide) (by decide) ?_
          refine j_aload_n C dX2_count_95 rfl ?_
          replace hf := gB2_e hf
          obtain ⟨x9, w8, ew8, hf⟩ := hf
          refine j_callV (As := []) (rest := []) (v := (some (gi x9))) C (by omega) (kt_X2_instances hinj (by omega) ew8) (tw_cls hinj) rfl q1794 q1796 qs57 q93 q1797 ⟨rfl, hd_X2_instances⟩ (by decide) rfl (Nat.le_of_ble_eq_true rfl) dX2_count_96 ?_
          obtain ⟨rfl, rfl⟩ := gSome hf
          exact j_iret C hr hw dX2_count_99
        · replace hf := gIf_f hf n48_1
          by_cases n48_2 : p1 = (nI 2)
          · replace hf := gIf_t hf n48_2
            refine j_tableIn (off := 52) (tgt := 100) C dX2_count_48 (by rw [n48_2]; decide) (by rw [n48_2]; decide) (by rw [n48_2]; decide) (by decide) ?_
            refine j_aload_n C dX2_count_100 rfl ?_
            refine j_iconst (v := (nI 0)) C dX2_count_101 (by decide) ?_
            replace hf := gB2_e hf
            obtain ⟨x11, w10, ew10, hf⟩ := hf
            refine j_callV (As := [(gi (nI 0))]) (rest := []) (v := (some (gi x11))) C (by omega) (kt_X2_withStatus hinj (by omega) ew10) (tw_cls hinj) rfl q1986 q1988 qs88 q93 q1989 ⟨rfl, hd_X2_withStatus⟩ (by decide) rfl (Nat.le_of_ble_eq_true rfl) dX2_count_102 ?_
            obtain ⟨rfl, rfl⟩ := gSome hf
            exact j_iret C hr hw dX2_count_105
          · replace hf := gIf_f hf n48_2
            by_cases n48_3 : p1 = (nI 3)
            · replace hf := gIf_t hf n48_3
              refine j_tableIn (off := 58) (tgt := 106) C dX2_count_48 (by rw [n48_3]; decide) (by rw [n48_3]; decide) (by rw [n48_3]; decide) (by decide) ?_
              refine j_aload_n C dX2_count_106 rfl ?_
              refine j_iconst (v := (nI 2)) C dX2_count_107 (by decide) ?_
              replace hf := gB2_e hf
              obtain ⟨x13, w12, ew12, hf⟩ := hf
              refine j_callV (As := [(gi (nI 2))]) (rest := []) (v := (some (gi x13))) C (by omega) (kt_X2_withStatus hinj (by omega) ew12) (tw_cls hinj) rfl q1986 q1988 qs88 q93 q1989 ⟨rfl, hd_X2_withStatus⟩ (by decide) rfl (Nat.le_of_ble_eq_true rfl) dX2_count_108 ?_
              obtain ⟨rfl, rfl⟩ := gSome hf
              exact j_iret C hr hw dX2_count_111
            · replace hf := gIf_f hf n48_3
              by_cases n48_4 : p1 = (nI 4)
              · replace hf := gIf_t hf n48_4
                refine j_tableIn (off := 64) (tgt := 112) C dX2_count_48 (by rw [n48_4]; decide) (by rw [n48_4]; decide) (by rw [n48_4]; decide) (by decide) ?_
                refine j_aload_n C dX2_count_112 rfl ?_
                refine j_get (v := (gi (w4 0 9))) C fl_X2_42_2 dX2_count_113 (tw_F hinj rfl) ?_
                obtain ⟨rfl, rfl⟩ := gSome hf
                exact j_iret C hr hw dX2_count_116
              · replace hf := gIf_f hf n48_4
                by_cases n48_5 : p1 = (nI 5)
                · replace hf := gIf_t hf n48_5
                  refine j_tableIn (off := 69) (tgt := 117) C dX2_count_48 (by rw [n48_5]; decide) (by rw [n48_5]; decide) (by rw [n48_5]; decide) (by decide) ?_
                  refine j_aload_n C dX2_count_117 rfl ?_
                  replace hf := gB2_e hf
                  obtain ⟨x15, w14, ew14, hf⟩ := hf
                  refine j_callV (As := []) (rest := []) (v := (some (gi x15))) C (by omega) (kt_X2_versions hinj (by omega) ew14) (tw_cls hinj) rfl q1990 q1992 qs89 q93 q1993 ⟨rfl, hd_X2_versions⟩ (by decide) rfl (Nat.le_of_ble_eq_true rfl) dX2_count_118 ?_
                  obtain ⟨rfl, rfl⟩ := gSome hf
                  exact j_iret C hr hw dX2_count_121
                · replace hf := gIf_f hf n48_5
                  refine j_tableOut (tgt := 122) C dX2_count_48 (g_out6 (a := 0) (by decide) n48_0 n48_1 n48_2 n48_3 n48_4 n48_5) (by decide) ?_
                  refine j_iconst (v := (-1)) C dX2_count_122 (by decide) ?_
                  obtain ⟨rfl, rfl⟩ := gSome hf
                  exact j_iret C hr hw dX2_count_123
    · replace hf := gIf_f hf c6
      refine j_aload_n C dX2_count_34 rfl ?_
      refine j_get (v := (ga (some (ad 5)))) C fl_X2_22_2 dX2_count_35 (tw_F hinj rfl) ?_
      refine j_bipush (v := (nI 9)) C dX2_count_38 (by decide) ?_
      refine j_iload_n C dX2_count_40 rfl ?_
      refine j_iadd C dX2_count_41 ?_
      refine j_bipush (v := (nI 20)) C dX2_count_42 (by decide) ?_
      refine j_isub C dX2_count_44 ?_
      replace hf := gB1_e hf
      obtain ⟨x16, ex16, hf⟩ := hf
      refine j_iald C (tw_ld hinj ex16) dX2_count_45 ?_
      obtain ⟨rfl, rfl⟩ := gSome hf
      exact j_iret C hr hw dX2_count_46
  · replace hf := gIf_f hf c3
    refine j_aload_n C dX2_count_11 rfl ?_
    refine j_get (v := (ga (some (ad 5)))) C fl_X2_22_2 dX2_count_12 (tw_F hinj rfl) ?_
    refine j_iconst (v := (nI 1)) C dX2_count_15 (by decide) ?_
    refine j_iload_n C dX2_count_16 rfl ?_
    refine j_iadd C dX2_count_17 ?_
    refine j_bipush (v := (nI 10)) C dX2_count_18 (by decide) ?_
    refine j_isub C dX2_count_20 ?_
    replace hf := gB1_e hf
    obtain ⟨x17, ex17, hf⟩ := hf
    refine j_iald C (tw_ld hinj ex17) dX2_count_21 ?_
    obtain ⟨rfl, rfl⟩ := gSome hf
    exact j_iret C hr hw dX2_count_22
def dkwX2_makes_2 : List UInt8 := [42, 29, 16, 7, 42, 180, 0, 45, 182, 0, 74, 42, 29, 16, 8, 28, 182, 0, 74, 29, 172]
abbrev dktX2_makes_2 : List UInt8 := dkwX2_makes_2 ++ []
def dkwX2_makes_1 : List UInt8 := [162, 0, 17, 42, 29, 21, 4, 2, 182, 0, 74, 132, 4, 1, 167, 255, 238, 42, 29, 3, 27, 182, 0, 74]
abbrev dktX2_makes_1 : List UInt8 := dkwX2_makes_1 ++ dktX2_makes_2
def dkwX2_makes_0 : List UInt8 := [42, 180, 0, 71, 62, 42, 89, 180, 0, 71, 4, 96, 181, 0, 71, 3, 54, 4, 21, 4, 16, 9]
abbrev dktX2_makes_0 : List UInt8 := dkwX2_makes_0 ++ dktX2_makes_1
theorem dksX2_makes_0 : cX2_makes.data.toList.drop 0 = dktX2_makes_0 := by decide +kernel
theorem dksX2_makes_1 : cX2_makes.data.toList.drop 22 = dktX2_makes_1 := dk_seg dksX2_makes_0 22 rfl rfl
theorem dksX2_makes_2 : cX2_makes.data.toList.drop 46 = dktX2_makes_2 := dk_seg dksX2_makes_1 24 rfl rfl
theorem dX2_makes_0 : decode cX2_makes 0 = .ok (.aload_n 0, 1) := dk_42 (dk_at dksX2_makes_0 0 rfl rfl)
theorem dX2_makes_1 : decode cX2_makes 1 = .ok (.getfield 71, 3) := dk_180 0 71 (dk_at dksX2_makes_0 1 rfl rfl)
theorem dX2_makes_4 : decode cX2_makes 4 = .ok (.istore_n 3, 1) := dk_62 (dk_at dksX2_makes_0 4 rfl rfl)
theorem dX2_makes_5 : decode cX2_makes 5 = .ok (.aload_n 0, 1) := dk_42 (dk_at dksX2_makes_0 5 rfl rfl)
theorem dX2_makes_6 : decode cX2_makes 6 = .ok (.dup, 1) := dk_89 (dk_at dksX2_makes_0 6 rfl rfl)
theorem dX2_makes_7 : decode cX2_makes 7 = .ok (.getfield 71, 3) := dk_180 0 71 (dk_at dksX2_makes_0 7 rfl rfl)
theorem dX2_makes_10 : decode cX2_makes 10 = .ok (.iconst 1, 1) := dk_4 (dk_at dksX2_makes_0 10 rfl rfl)
theorem dX2_makes_11 : decode cX2_makes 11 = .ok (.iadd, 1) := dk_96 (dk_at dksX2_makes_0 11 rfl rfl)
theorem dX2_makes_12 : decode cX2_makes 12 = .ok (.putfield 71, 3) := dk_181 0 71 (dk_at dksX2_makes_0 12 rfl rfl)
theorem dX2_makes_15 : decode cX2_makes 15 = .ok (.iconst 0, 1) := dk_3 (dk_at dksX2_makes_0 15 rfl rfl)
theorem dX2_makes_16 : decode cX2_makes 16 = .ok (.istore 4, 2) := dk_54 4 (dk_at dksX2_makes_0 16 rfl rfl)
theorem dX2_makes_18 : decode cX2_makes 18 = .ok (.iload 4, 2) := dk_21 4 (dk_at dksX2_makes_0 18 rfl rfl)
theorem dX2_makes_20 : decode cX2_makes 20 = .ok (.bipush 9, 2) := dk_16 9 (dk_at dksX2_makes_0 20 rfl rfl)
theorem dX2_makes_22 : decode cX2_makes 22 = .ok (.if_icmp .ge 17, 3) := dk_162 0 17 (dk_at dksX2_makes_1 0 rfl rfl)
theorem dX2_makes_25 : decode cX2_makes 25 = .ok (.aload_n 0, 1) := dk_42 (dk_at dksX2_makes_1 3 rfl rfl)
theorem dX2_makes_26 : decode cX2_makes 26 = .ok (.iload_n 3, 1) := dk_29 (dk_at dksX2_makes_1 4 rfl rfl)
theorem dX2_makes_27 : decode cX2_makes 27 = .ok (.iload 4, 2) := dk_21 4 (dk_at dksX2_makes_1 5 rfl rfl)
theorem dX2_makes_29 : decode cX2_makes 29 = .ok (.iconst (-1), 1) := dk_2 (dk_at dksX2_makes_1 7 rfl rfl)
theorem dX2_makes_30 : decode cX2_makes 30 = .ok (.invokevirtual 74, 3) := dk_182 0 74 (dk_at dksX2_makes_1 8 rfl rfl)
theorem dX2_makes_33 : decode cX2_makes 33 = .ok (.iinc 4 1, 3) := dk_132 4 1 (dk_at dksX2_makes_1 11 rfl rfl)
theorem dX2_makes_36 : decode cX2_makes 36 = .ok (.goto (-18), 3) := dk_167 255 238 (dk_at dksX2_makes_1 14 rfl rfl)
theorem dX2_makes_39 : decode cX2_makes 39 = .ok (.aload_n 0, 1) := dk_42 (dk_at dksX2_makes_1 17 rfl rfl)
theorem dX2_makes_40 : decode cX2_makes 40 = .ok (.iload_n 3, 1) := dk_29 (dk_at dksX2_makes_1 18 rfl rfl)
theorem dX2_makes_41 : decode cX2_makes 41 = .ok (.iconst 0, 1) := dk_3 (dk_at dksX2_makes_1 19 rfl rfl)
theorem dX2_makes_42 : decode cX2_makes 42 = .ok (.iload_n 1, 1) := dk_27 (dk_at dksX2_makes_1 20 rfl rfl)
theorem dX2_makes_43 : decode cX2_makes 43 = .ok (.invokevirtual 74, 3) := dk_182 0 74 (dk_at dksX2_makes_1 21 rfl rfl)
theorem dX2_makes_46 : decode cX2_makes 46 = .ok (.aload_n 0, 1) := dk_42 (dk_at dksX2_makes_2 0 rfl rfl)
theorem dX2_makes_47 : decode cX2_makes 47 = .ok (.iload_n 3, 1) := dk_29 (dk_at dksX2_makes_2 1 rfl rfl)
theorem dX2_makes_48 : decode cX2_makes 48 = .ok (.bipush 7, 2) := dk_16 7 (dk_at dksX2_makes_2 2 rfl rfl)
theorem dX2_makes_50 : decode cX2_makes 50 = .ok (.aload_n 0, 1) := dk_42 (dk_at dksX2_makes_2 4 rfl rfl)
theorem dX2_makes_51 : decode cX2_makes 51 = .ok (.getfield 45, 3) := dk_180 0 45 (dk_at dksX2_makes_2 5 rfl rfl)
theorem dX2_makes_54 : decode cX2_makes 54 = .ok (.invokevirtual 74, 3) := dk_182 0 74 (dk_at dksX2_makes_2 8 rfl rfl)
theorem dX2_makes_57 : decode cX2_makes 57 = .ok (.aload_n 0, 1) := dk_42 (dk_at dksX2_makes_2 11 rfl rfl)
theorem dX2_makes_58 : decode cX2_makes 58 = .ok (.iload_n 3, 1) := dk_29 (dk_at dksX2_makes_2 12 rfl rfl)
theorem dX2_makes_59 : decode cX2_makes 59 = .ok (.bipush 8, 2) := dk_16 8 (dk_at dksX2_makes_2 13 rfl rfl)
theorem dX2_makes_61 : decode cX2_makes 61 = .ok (.iload_n 2, 1) := dk_28 (dk_at dksX2_makes_2 15 rfl rfl)
theorem dX2_makes_62 : decode cX2_makes 62 = .ok (.invokevirtual 74, 3) := dk_182 0 74 (dk_at dksX2_makes_2 16 rfl rfl)
theorem dX2_makes_65 : decode cX2_makes 65 = .ok (.iload_n 3, 1) := dk_29 (dk_at dksX2_makes_2 19 rfl rfl)
theorem dX2_makes_66 : decode cX2_makes 66 = .ok (.ireturn, 1) := dk_172 (dk_at dksX2_makes_2 20 rfl rfl)
theorem fl_X2_71_2 : gFL RX2 71 2 14 := gFL.mk (Cn := RX2) (T := TX2) (N := 21) (ref := "WorkflowEngineModel") rfl in_X2 (by decide) q1608 rfl rfl (Or.inl rfl)
theorem fk_2_14 : gFk 2 14 "I" false "WorkflowEngineModel" := fun Cn T N h => by
  have h : (RX2, TX2, 21) = (Cn, T, N) := Option.some.inj h
  cases h
  exact ⟨rfl, rfl, rfl⟩
def t_X2_makes (p1 : Int32) (p2 : Int32) (w0 : TS) : Option (Int32 × TS) := gBd (w0 0 14) fun x1 => gBd (tPut w0 14 ((w0 0 14) + (nI 1))) fun w2 => gL4 (fun k8 (x4 : Int32) (x5 : Int32) (x6 : Int32) (x7 : Int32) (w3 : TS) => if (nI 9) ≤ x7 then gB2 (t_X2_put x6 (nI 0) x4 w3) fun _ w10 => gB2 (t_X2_put x6 (nI 7) (w10 0 12) w10) fun _ w11 => gB2 (t_X2_put x6 (nI 8) x5 w11) fun _ w12 => some (x6, w12) else gB2 (t_X2_put x6 x7 (-1) w3) fun _ w13 => gBd (x7 + (nI 1)) fun x14 => k8 x4 x5 x6 x14 w13) 20000 p1 p2 x1 (nI 0) w2
set_option maxHeartbeats 4000000 in
set_option maxRecDepth 100000 in
theorem kt_X2_makes {D : va_G} {dA : Nat → ClassId} {A : Nat → Prop} {K : Nat → Nat} {l : Launch} {wb : gw} {ad : Nat → Nat} (hinj : tInj ad) {h : Nat} (hh : 2 ≤ h) {p1 : Int32} {p2 : Int32} {w0 ww : TS} {rr : Int32} (hf : t_X2_makes p1 p2 w0 = some (rr, ww)) : gMet D dA A K l yX2_makes (ws_ yX2_makes cX2_makes 5 (some .int)) h [(ga (some (ad 0))), (gi p1), (gi p2)] (some (gi rr)) (twOf wb ad w0) (twOf wb ad ww) := by
  refine j_start (own := RX2) (by decide +kernel) rfl (Nat.le_of_ble_eq_true rfl) ?_
  intro p e R s m args below meth c C hr hin hw
  unfold t_X2_makes at hf
  show gJ D dA A K p l e R s m args below meth c (gEnd D dA A K below args s (twOf wb ad w0) (some (gi rr)) (twOf wb ad ww)) 5 0 [(0, (ga (some (ad 0)))), (1, (gi p1)), (2, (gi p2))] [] (twOf wb ad w0)
  refine j_aload_n C dX2_makes_0 rfl ?_
  refine j_get (v := (gi (w0 0 14))) C fl_X2_71_2 dX2_makes_1 (tw_F hinj rfl) ?_
  replace hf := gBd_x hf
  obtain ⟨x1, ex1, hf⟩ := hf
  refine j_nm ex1 ?_
  refine j_istore_n (lv' := [(3, (gi x1)), (0, (ga (some (ad 0)))), (1, (gi p1)), (2, (gi p2))]) C dX2_makes_4 (by decide) rfl ?_
  refine j_aload_n C dX2_makes_5 rfl ?_
  refine j_dup C dX2_makes_6 ?_
  refine j_get (v := (gi (w0 0 14))) C fl_X2_71_2 dX2_makes_7 (tw_F hinj rfl) ?_
  refine j_iconst (v := (nI 1)) C dX2_makes_10 (by decide) ?_
  refine j_iadd C dX2_makes_11 ?_
  replace hf := gBd_x hf
  obtain ⟨w2, ew2, hf⟩ := hf
  refine j_put C fl_X2_71_2 tb_2 (tw_put hinj ew2 rfl (by decide)) fk_2_14 (fit_I ((w0 0 14) + (nI 1))) dX2_makes_12 ?_
  refine j_iconst (v := (nI 0)) C dX2_makes_15 (by decide) ?_
  refine j_istore (lv' := [(4, (gi (nI 0))), (3, (gi x1)), (0, (ga (some (ad 0)))), (1, (gi p1)), (2, (gi p2))]) C dX2_makes_16 (by decide) rfl ?_
  refine j_sub (lv' := [(0, (ga (some (ad 0)))), (1, (gi p1)), (2, (gi p2)), (3, (gi x1)), (4, (gi (nI 0)))]) (gL_cons rfl (gL_cons rfl (gL_cons rfl (gL_cons rfl (gL_cons rfl (gL_nil)))))) ?_
  refine gL4_e (fun (x4 : Int32) (x5 : Int32) (x6 : Int32) (x7 : Int32) (w3 : TS) => gJ D dA A K p l e R s m args below meth c (gEnd D dA A K below args s (twOf wb ad w0) (some (gi rr)) (twOf wb ad ww)) 5 18 [(0, (ga (some (ad 0)))), (1, (gi x4)), (2, (gi x5)), (3, (gi x6)), (4, (gi x7))] [] (twOf wb ad w3)) ?_ _ _ _ _ _ _ hf
  intro k8 jk8 x4 x5 x6 x7 w3 hf
  refine j_iload C dX2_makes_18 rfl ?_
  refine j_bipush (v := (nI 9)) C dX2_makes_20 (by decide) ?_
  refine j_icmp_ge (tgt := 39) C dX2_makes_22 (by decide) (fun c9 => ?_) (fun c9 => ?_)
  · replace hf := gIf_t hf c9
    refine j_aload_n C dX2_makes_39 rfl ?_
    refine j_iload_n C dX2_makes_40 rfl ?_
    refine j_iconst (v := (nI 0)) C dX2_makes_41 (by decide) ?_
    refine j_iload_n C dX2_makes_42 rfl ?_
    replace hf := gB2_e hf
    obtain ⟨_, w10, ew10, hf⟩ := hf
    refine j_callV (As := [(gi x6), (gi (nI 0)), (gi x4)]) (rest := []) (v := none) C (by omega) (kt_X2_put hinj (by omega) ew10) (tw_cls hinj) rfl q1680 q1682 qs36 q93 q1683 ⟨rfl, hd_X2_put⟩ (by decide) rfl (Nat.le_of_ble_eq_true rfl) dX2_makes_43 ?_
    refine j_aload_n C dX2_makes_46 rfl ?_
    refine j_iload_n C dX2_makes_47 rfl ?_
    refine j_bipush (v := (nI 7)) C dX2_makes_48 (by decide) ?_
    refine j_aload_n C dX2_makes_50 rfl ?_
    refine j_get (v := (gi (w10 0 12))) C fl_X2_45_2 dX2_makes_51 (tw_F hinj rfl) ?_
    replace hf := gB2_e hf
    obtain ⟨_, w11, ew11, hf⟩ := hf
    refine j_callV (As := [(gi x6), (gi (nI 7)), (gi (w10 0 12))]) (rest := []) (v := none) C (by omega) (kt_X2_put hinj (by omega) ew11) (tw_cls hinj) rfl q1680 q1682 qs36 q93 q1683 ⟨rfl, hd_X2_put⟩ (by decide) rfl (Nat.le_of_ble_eq_true rfl) dX2_makes_54 ?_
    refine j_aload_n C dX2_makes_57 rfl ?_
    refine j_iload_n C dX2_makes_58 rfl ?_
    refine j_bipush (v := (nI 8)) C dX2_makes_59 (by decide) ?_
    refine j_iload_n C dX2_makes_61 rfl ?_
    replace hf := gB2_e hf
    obtain ⟨_, w12, ew12, hf⟩ := hf
    refine j_callV (As := [(gi x6), (gi (nI 8)), (gi x5)]) (rest := []) (v := none) C (by omega) (kt_X2_put hinj (by omega) ew12) (tw_cls hinj) rfl q1680 q1682 qs36 q93 q1683 ⟨rfl, hd_X2_put⟩ (by decide) rfl (Nat.le_of_ble_eq_true rfl) dX2_makes_62 ?_
    refine j_iload_n C dX2_makes_65 rfl ?_
    obtain ⟨rfl, rfl⟩ := gSome hf
    exact j_iret C hr hw dX2_makes_66
  · replace hf := gIf_f hf c9
    refine j_aload_n C dX2_makes_25 rfl ?_
    refine j_iload_n C dX2_makes_26 rfl ?_
    refine j_iload C dX2_makes_27 rfl ?_
    refine j_iconst (v := (-1)) C dX2_makes_29 (by decide) ?_
    replace hf := gB2_e hf
    obtain ⟨_, w13, ew13, hf⟩ := hf
    refine j_callV (As := [(gi x6), (gi x7), (gi (-1))]) (rest := []) (v := none) C (by omega) (kt_X2_put hinj (by omega) ew13) (tw_cls hinj) rfl q1680 q1682 qs36 q93 q1683 ⟨rfl, hd_X2_put⟩ (by decide) rfl (Nat.le_of_ble_eq_true rfl) dX2_makes_30 ?_
    replace hf := gBd_x hf
    obtain ⟨x14, ex14, hf⟩ := hf
    refine j_iinc (v := x14) (lv' := [(4, (gi x14)), (0, (ga (some (ad 0)))), (1, (gi x4)), (2, (gi x5)), (3, (gi x6))]) C dX2_makes_33 rfl (by rw [ex14]; rfl) (by decide) rfl ?_
    refine j_goto (tgt := 18) C dX2_makes_36 (by decide) ?_
    refine j_sub (lv' := [(0, (ga (some (ad 0)))), (1, (gi x4)), (2, (gi x5)), (3, (gi x6)), (4, (gi x14))]) (gL_cons rfl (gL_cons rfl (gL_cons rfl (gL_cons rfl (gL_cons rfl (gL_nil)))))) ?_
    exact jk8 _ _ _ _ _ hf
def dkwX2_nextToCompensate_6 : List UInt8 := [167, 255, 124, 29, 172]
abbrev dktX2_nextToCompensate_6 : List UInt8 := dkwX2_nextToCompensate_6 ++ []
def dkwX2_nextToCompensate_5 : List UInt8 := [153, 0, 20, 21, 5, 62, 42, 180, 0, 22, 27, 21, 5, 8, 184, 0, 169, 46, 54, 4, 132, 5, 1]
abbrev dktX2_nextToCompensate_5 : List UInt8 := dkwX2_nextToCompensate_5 ++ dktX2_nextToCompensate_6
def dkwX2_nextToCompensate_4 : List UInt8 := [180, 0, 22, 27, 21, 5, 8, 184, 0, 169, 46, 21, 4, 164, 0, 31, 42, 27, 21, 5, 28, 182, 0, 220]
abbrev dktX2_nextToCompensate_4 : List UInt8 := dkwX2_nextToCompensate_4 ++ dktX2_nextToCompensate_5
def dkwX2_nextToCompensate_3 : List UInt8 := [21, 5, 16, 6, 184, 0, 169, 46, 154, 0, 7, 4, 167, 0, 4, 3, 54, 6, 21, 6, 153, 0, 48, 42]
abbrev dktX2_nextToCompensate_3 : List UInt8 := dkwX2_nextToCompensate_3 ++ dktX2_nextToCompensate_4
def dkwX2_nextToCompensate_2 : List UInt8 := [184, 0, 169, 46, 5, 160, 0, 34, 42, 27, 21, 5, 7, 182, 0, 171, 155, 0, 23, 42, 180, 0, 22, 27]
abbrev dktX2_nextToCompensate_2 : List UInt8 := dkwX2_nextToCompensate_2 ++ dktX2_nextToCompensate_3
def dkwX2_nextToCompensate_1 : List UInt8 := [162, 0, 121, 42, 27, 21, 5, 3, 182, 0, 171, 4, 160, 0, 50, 42, 180, 0, 22, 27, 21, 5, 3]
abbrev dktX2_nextToCompensate_1 : List UInt8 := dkwX2_nextToCompensate_1 ++ dktX2_nextToCompensate_2
def dkwX2_nextToCompensate_0 : List UInt8 := [2, 62, 3, 54, 4, 3, 54, 5, 21, 5, 42, 180, 0, 16, 7, 42, 27, 182, 0, 166, 104, 46]
abbrev dktX2_nextToCompensate_0 : List UInt8 := dkwX2_nextToCompensate_0 ++ dktX2_nextToCompensate_1
theorem dksX2_nextToCompensate_0 : cX2_nextToCompensate.data.toList.drop 0 = dktX2_nextToCompensate_0 := by decide +kernel
theorem dksX2_nextToCompensate_1 : cX2_nextToCompensate.data.toList.drop 22 = dktX2_nextToCompensate_1 := dk_seg dksX2_nextToCompensate_0 22 rfl rfl
theorem dksX2_nextToCompensate_2 : cX2_nextToCompensate.data.toList.drop 45 = dktX2_nextToCompensate_2 := dk_seg dksX2_nextToCompensate_1 23 rfl rfl
theorem dksX2_nextToCompensate_3 : cX2_nextToCompensate.data.toList.drop 69 = dktX2_nextToCompensate_3 := dk_seg dksX2_nextToCompensate_2 24 rfl rfl
theorem dksX2_nextToCompensate_4 : cX2_nextToCompensate.data.toList.drop 93 = dktX2_nextToCompensate_4 := dk_seg dksX2_nextToCompensate_3 24 rfl rfl
theorem dksX2_nextToCompensate_5 : cX2_nextToCompensate.data.toList.drop 117 = dktX2_nextToCompensate_5 := dk_seg dksX2_nextToCompensate_4 24 rfl rfl
theorem dksX2_nextToCompensate_6 : cX2_nextToCompensate.data.toList.drop 140 = dktX2_nextToCompensate_6 := dk_seg dksX2_nextToCompensate_5 23 rfl rfl
theorem dX2_nextToCompensate_0 : decode cX2_nextToCompensate 0 = .ok (.iconst (-1), 1) := dk_2 (dk_at dksX2_nextToCompensate_0 0 rfl rfl)
theorem dX2_nextToCompensate_1 : decode cX2_nextToCompensate 1 = .ok (.istore_n 3, 1) := dk_62 (dk_at dksX2_nextToCompensate_0 1 rfl rfl)
theorem dX2_nextToCompensate_2 : decode cX2_nextToCompensate 2 = .ok (.iconst 0, 1) := dk_3 (dk_at dksX2_nextToCompensate_0 2 rfl rfl)
theorem dX2_nextToCompensate_3 : decode cX2_nextToCompensate 3 = .ok (.istore 4, 2) := dk_54 4 (dk_at dksX2_nextToCompensate_0 3 rfl rfl)
theorem dX2_nextToCompensate_5 : decode cX2_nextToCompensate 5 = .ok (.iconst 0, 1) := dk_3 (dk_at dksX2_nextToCompensate_0 5 rfl rfl)
theorem dX2_nextToCompensate_6 : decode cX2_nextToCompensate 6 = .ok (.istore 5, 2) := dk_54 5 (dk_at dksX2_nextToCompensate_0 6 rfl rfl)
theorem dX2_nextToCompensate_8 : decode cX2_nextToCompensate 8 = .ok (.iload 5, 2) := dk_21 5 (dk_at dksX2_nextToCompensate_0 8 rfl rfl)
theorem dX2_nextToCompensate_10 : decode cX2_nextToCompensate 10 = .ok (.aload_n 0, 1) := dk_42 (dk_at dksX2_nextToCompensate_0 10 rfl rfl)
theorem dX2_nextToCompensate_11 : decode cX2_nextToCompensate 11 = .ok (.getfield 16, 3) := dk_180 0 16 (dk_at dksX2_nextToCompensate_0 11 rfl rfl)
theorem dX2_nextToCompensate_14 : decode cX2_nextToCompensate 14 = .ok (.iconst 4, 1) := dk_7 (dk_at dksX2_nextToCompensate_0 14 rfl rfl)
theorem dX2_nextToCompensate_15 : decode cX2_nextToCompensate 15 = .ok (.aload_n 0, 1) := dk_42 (dk_at dksX2_nextToCompensate_0 15 rfl rfl)
theorem dX2_nextToCompensate_16 : decode cX2_nextToCompensate 16 = .ok (.iload_n 1, 1) := dk_27 (dk_at dksX2_nextToCompensate_0 16 rfl rfl)
theorem dX2_nextToCompensate_17 : decode cX2_nextToCompensate 17 = .ok (.invokevirtual 166, 3) := dk_182 0 166 (dk_at dksX2_nextToCompensate_0 17 rfl rfl)
theorem dX2_nextToCompensate_20 : decode cX2_nextToCompensate 20 = .ok (.imul, 1) := dk_104 (dk_at dksX2_nextToCompensate_0 20 rfl rfl)
theorem dX2_nextToCompensate_21 : decode cX2_nextToCompensate 21 = .ok (.iaload, 1) := dk_46 (dk_at dksX2_nextToCompensate_0 21 rfl rfl)
theorem dX2_nextToCompensate_22 : decode cX2_nextToCompensate 22 = .ok (.if_icmp .ge 121, 3) := dk_162 0 121 (dk_at dksX2_nextToCompensate_1 0 rfl rfl)
theorem dX2_nextToCompensate_25 : decode cX2_nextToCompensate 25 = .ok (.aload_n 0, 1) := dk_42 (dk_at dksX2_nextToCompensate_1 3 rfl rfl)
theorem dX2_nextToCompensate_26 : decode cX2_nextToCompensate 26 = .ok (.iload_n 1, 1) := dk_27 (dk_at dksX2_nextToCompensate_1 4 rfl rfl)
theorem dX2_nextToCompensate_27 : decode cX2_nextToCompensate 27 = .ok (.iload 5, 2) := dk_21 5 (dk_at dksX2_nextToCompensate_1 5 rfl rfl)
theorem dX2_nextToCompensate_29 : decode cX2_nextToCompensate 29 = .ok (.iconst 0, 1) := dk_3 (dk_at dksX2_nextToCompensate_1 7 rfl rfl)
theorem dX2_nextToCompensate_30 : decode cX2_nextToCompensate 30 = .ok (.invokevirtual 171, 3) := dk_182 0 171 (dk_at dksX2_nextToCompensate_1 8 rfl rfl)
theorem dX2_nextToCompensate_33 : decode cX2_nextToCompensate 33 = .ok (.iconst 1, 1) := dk_4 (dk_at dksX2_nextToCompensate_1 11 rfl rfl)
theorem dX2_nextToCompensate_34 : decode cX2_nextToCompensate 34 = .ok (.if_icmp .ne 50, 3) := dk_160 0 50 (dk_at dksX2_nextToCompensate_1 12 rfl rfl)
theorem dX2_nextToCompensate_37 : decode cX2_nextToCompensate 37 = .ok (.aload_n 0, 1) := dk_42 (dk_at dksX2_nextToCompensate_1 15 rfl rfl)
theorem dX2_nextToCompensate_38 : decode cX2_nextToCompensate 38 = .ok (.getfield 22, 3) := dk_180 0 22 (dk_at dksX2_nextToCompensate_1 16 rfl rfl)
theorem dX2_nextToCompensate_41 : decode cX2_nextToCompensate 41 = .ok (.iload_n 1, 1) := dk_27 (dk_at dksX2_nextToCompensate_1 19 rfl rfl)
theorem dX2_nextToCompensate_42 : decode cX2_nextToCompensate 42 = .ok (.iload 5, 2) := dk_21 5 (dk_at dksX2_nextToCompensate_1 20 rfl rfl)
theorem dX2_nextToCompensate_44 : decode cX2_nextToCompensate 44 = .ok (.iconst 0, 1) := dk_3 (dk_at dksX2_nextToCompensate_1 22 rfl rfl)
theorem dX2_nextToCompensate_45 : decode cX2_nextToCompensate 45 = .ok (.invokestatic 169, 3) := dk_184 0 169 (dk_at dksX2_nextToCompensate_2 0 rfl rfl)
theorem dX2_nextToCompensate_48 : decode cX2_nextToCompensate 48 = .ok (.iaload, 1) := dk_46 (dk_at dksX2_nextToCompensate_2 3 rfl rfl)
theorem dX2_nextToCompensate_49 : decode cX2_nextToCompensate 49 = .ok (.iconst 2, 1) := dk_5 (dk_at dksX2_nextToCompensate_2 4 rfl rfl)
theorem dX2_nextToCompensate_50 : decode cX2_nextToCompensate 50 = .ok (.if_icmp .ne 34, 3) := dk_160 0 34 (dk_at dksX2_nextToCompensate_2 5 rfl rfl)
theorem dX2_nextToCompensate_53 : decode cX2_nextToCompensate 53 = .ok (.aload_n 0, 1) := dk_42 (dk_at dksX2_nextToCompensate_2 8 rfl rfl)
theorem dX2_nextToCompensate_54 : decode cX2_nextToCompensate 54 = .ok (.iload_n 1, 1) := dk_27 (dk_at dksX2_nextToCompensate_2 9 rfl rfl)
theorem dX2_nextToCompensate_55 : decode cX2_nextToCompensate 55 = .ok (.iload 5, 2) := dk_21 5 (dk_at dksX2_nextToCompensate_2 10 rfl rfl)
theorem dX2_nextToCompensate_57 : decode cX2_nextToCompensate 57 = .ok (.iconst 4, 1) := dk_7 (dk_at dksX2_nextToCompensate_2 12 rfl rfl)
theorem dX2_nextToCompensate_58 : decode cX2_nextToCompensate 58 = .ok (.invokevirtual 171, 3) := dk_182 0 171 (dk_at dksX2_nextToCompensate_2 13 rfl rfl)
theorem dX2_nextToCompensate_61 : decode cX2_nextToCompensate 61 = .ok (.ifCond .lt 23, 3) := dk_155 0 23 (dk_at dksX2_nextToCompensate_2 16 rfl rfl)
theorem dX2_nextToCompensate_64 : decode cX2_nextToCompensate 64 = .ok (.aload_n 0, 1) := dk_42 (dk_at dksX2_nextToCompensate_2 19 rfl rfl)
theorem dX2_nextToCompensate_65 : decode cX2_nextToCompensate 65 = .ok (.getfield 22, 3) := dk_180 0 22 (dk_at dksX2_nextToCompensate_2 20 rfl rfl)
theorem dX2_nextToCompensate_68 : decode cX2_nextToCompensate 68 = .ok (.iload_n 1, 1) := dk_27 (dk_at dksX2_nextToCompensate_2 23 rfl rfl)
theorem dX2_nextToCompensate_69 : decode cX2_nextToCompensate 69 = .ok (.iload 5, 2) := dk_21 5 (dk_at dksX2_nextToCompensate_3 0 rfl rfl)
theorem dX2_nextToCompensate_71 : decode cX2_nextToCompensate 71 = .ok (.bipush 6, 2) := dk_16 6 (dk_at dksX2_nextToCompensate_3 2 rfl rfl)
theorem dX2_nextToCompensate_73 : decode cX2_nextToCompensate 73 = .ok (.invokestatic 169, 3) := dk_184 0 169 (dk_at dksX2_nextToCompensate_3 4 rfl rfl)
theorem dX2_nextToCompensate_76 : decode cX2_nextToCompensate 76 = .ok (.iaload, 1) := dk_46 (dk_at dksX2_nextToCompensate_3 7 rfl rfl)
theorem dX2_nextToCompensate_77 : decode cX2_nextToCompensate 77 = .ok (.ifCond .ne 7, 3) := dk_154 0 7 (dk_at dksX2_nextToCompensate_3 8 rfl rfl)
theorem dX2_nextToCompensate_80 : decode cX2_nextToCompensate 80 = .ok (.iconst 1, 1) := dk_4 (dk_at dksX2_nextToCompensate_3 11 rfl rfl)
theorem dX2_nextToCompensate_81 : decode cX2_nextToCompensate 81 = .ok (.goto 4, 3) := dk_167 0 4 (dk_at dksX2_nextToCompensate_3 12 rfl rfl)
theorem dX2_nextToCompensate_84 : decode cX2_nextToCompensate 84 = .ok (.iconst 0, 1) := dk_3 (dk_at dksX2_nextToCompensate_3 15 rfl rfl)
theorem dX2_nextToCompensate_85 : decode cX2_nextToCompensate 85 = .ok (.istore 6, 2) := dk_54 6 (dk_at dksX2_nextToCompensate_3 16 rfl rfl)
theorem dX2_nextToCompensate_87 : decode cX2_nextToCompensate 87 = .ok (.iload 6, 2) := dk_21 6 (dk_at dksX2_nextToCompensate_3 18 rfl rfl)
theorem dX2_nextToCompensate_89 : decode cX2_nextToCompensate 89 = .ok (.ifCond .eq 48, 3) := dk_153 0 48 (dk_at dksX2_nextToCompensate_3 20 rfl rfl)
theorem dX2_nextToCompensate_92 : decode cX2_nextToCompensate 92 = .ok (.aload_n 0, 1) := dk_42 (dk_at dksX2_nextToCompensate_3 23 rfl rfl)
theorem dX2_nextToCompensate_93 : decode cX2_nextToCompensate 93 = .ok (.getfield 22, 3) := dk_180 0 22 (dk_at dksX2_nextToCompensate_4 0 rfl rfl)
theorem dX2_nextToCompensate_96 : decode cX2_nextToCompensate 96 = .ok (.iload_n 1, 1) := dk_27 (dk_at dksX2_nextToCompensate_4 3 rfl rfl)
theorem dX2_nextToCompensate_97 : decode cX2_nextToCompensate 97 = .ok (.iload 5, 2) := dk_21 5 (dk_at dksX2_nextToCompensate_4 4 rfl rfl)
theorem dX2_nextToCompensate_99 : decode cX2_nextToCompensate 99 = .ok (.iconst 5, 1) := dk_8 (dk_at dksX2_nextToCompensate_4 6 rfl rfl)
theorem dX2_nextToCompensate_100 : decode cX2_nextToCompensate 100 = .ok (.invokestatic 169, 3) := dk_184 0 169 (dk_at dksX2_nextToCompensate_4 7 rfl rfl)
theorem dX2_nextToCompensate_103 : decode cX2_nextToCompensate 103 = .ok (.iaload, 1) := dk_46 (dk_at dksX2_nextToCompensate_4 10 rfl rfl)
theorem dX2_nextToCompensate_104 : decode cX2_nextToCompensate 104 = .ok (.iload 4, 2) := dk_21 4 (dk_at dksX2_nextToCompensate_4 11 rfl rfl)
theorem dX2_nextToCompensate_106 : decode cX2_nextToCompensate 106 = .ok (.if_icmp .le 31, 3) := dk_164 0 31 (dk_at dksX2_nextToCompensate_4 13 rfl rfl)
theorem dX2_nextToCompensate_109 : decode cX2_nextToCompensate 109 = .ok (.aload_n 0, 1) := dk_42 (dk_at dksX2_nextToCompensate_4 16 rfl rfl)
theorem dX2_nextToCompensate_110 : decode cX2_nextToCompensate 110 = .ok (.iload_n 1, 1) := dk_27 (dk_at dksX2_nextToCompensate_4 17 rfl rfl)
theorem dX2_nextToCompensate_111 : decode cX2_nextToCompensate 111 = .ok (.iload 5, 2) := dk_21 5 (dk_at dksX2_nextToCompensate_4 18 rfl rfl)
theorem dX2_nextToCompensate_113 : decode cX2_nextToCompensate 113 = .ok (.iload_n 2, 1) := dk_28 (dk_at dksX2_nextToCompensate_4 20 rfl rfl)
theorem dX2_nextToCompensate_114 : decode cX2_nextToCompensate 114 = .ok (.invokevirtual 220, 3) := dk_182 0 220 (dk_at dksX2_nextToCompensate_4 21 rfl rfl)
theorem dX2_nextToCompensate_117 : decode cX2_nextToCompensate 117 = .ok (.ifCond .eq 20, 3) := dk_153 0 20 (dk_at dksX2_nextToCompensate_5 0 rfl rfl)
theorem dX2_nextToCompensate_120 : decode cX2_nextToCompensate 120 = .ok (.iload 5, 2) := dk_21 5 (dk_at dksX2_nextToCompensate_5 3 rfl rfl)
theorem dX2_nextToCompensate_122 : decode cX2_nextToCompensate 122 = .ok (.istore_n 3, 1) := dk_62 (dk_at dksX2_nextToCompensate_5 5 rfl rfl)
theorem dX2_nextToCompensate_123 : decode cX2_nextToCompensate 123 = .ok (.aload_n 0, 1) := dk_42 (dk_at dksX2_nextToCompensate_5 6 rfl rfl)
theorem dX2_nextToCompensate_124 : decode cX2_nextToCompensate 124 = .ok (.getfield 22, 3) := dk_180 0 22 (dk_at dksX2_nextToCompensate_5 7 rfl rfl)
theorem dX2_nextToCompensate_127 : decode cX2_nextToCompensate 127 = .ok (.iload_n 1, 1) := dk_27 (dk_at dksX2_nextToCompensate_5 10 rfl rfl)
theorem dX2_nextToCompensate_128 : decode cX2_nextToCompensate 128 = .ok (.iload 5, 2) := dk_21 5 (dk_at dksX2_nextToCompensate_5 11 rfl rfl)
theorem dX2_nextToCompensate_130 : decode cX2_nextToCompensate 130 = .ok (.iconst 5, 1) := dk_8 (dk_at dksX2_nextToCompensate_5 13 rfl rfl)
theorem dX2_nextToCompensate_131 : decode cX2_nextToCompensate 131 = .ok (.invokestatic 169, 3) := dk_184 0 169 (dk_at dksX2_nextToCompensate_5 14 rfl rfl)
theorem dX2_nextToCompensate_134 : decode cX2_nextToCompensate 134 = .ok (.iaload, 1) := dk_46 (dk_at dksX2_nextToCompensate_5 17 rfl rfl)
theorem dX2_nextToCompensate_135 : decode cX2_nextToCompensate 135 = .ok (.istore 4, 2) := dk_54 4 (dk_at dksX2_nextToCompensate_5 18 rfl rfl)
theorem dX2_nextToCompensate_137 : decode cX2_nextToCompensate 137 = .ok (.iinc 5 1, 3) := dk_132 5 1 (dk_at dksX2_nextToCompensate_5 20 rfl rfl)
theorem dX2_nextToCompensate_140 : decode cX2_nextToCompensate 140 = .ok (.goto (-132), 3) := dk_167 255 124 (dk_at dksX2_nextToCompensate_6 0 rfl rfl)
theorem dX2_nextToCompensate_143 : decode cX2_nextToCompensate 143 = .ok (.iload_n 3, 1) := dk_29 (dk_at dksX2_nextToCompensate_6 3 rfl rfl)
theorem dX2_nextToCompensate_144 : decode cX2_nextToCompensate 144 = .ok (.ireturn, 1) := dk_172 (dk_at dksX2_nextToCompensate_6 4 rfl rfl)
theorem hd_X2_isFor : (yX2_isFor.cls ≠ "java/lang/invoke/MethodHandle" ∧ yX2_isFor.cls ≠ "java/lang/invoke/VarHandle" ∧ (parseMethodDescriptor yX2_isFor.desc).map (fun d => d.parameters.length) = some 3) := ⟨by decide +kernel, by decide +kernel, by decide +kernel⟩
def t_X2_nextToCompensate (p1 : Int32) (p2 : Int32) (w0 : TS) : Option (Int32 × TS) := gL5 (fun k7 (x2 : Int32) (x3 : Int32) (x4 : Int32) (x5 : Int32) (x6 : Int32) (w1 : TS) => gB2 (t_X2_versionOf x2 w1) fun x9 w8 => gB1 (tLd w8 3 ((nI 4) * x9)) fun x10 => if x10 ≤ x6 then some (x4, w8) else gB2 (t_X2_nodePart x2 x6 (nI 0) w8) fun x13 w12 => gBd (fun (x16 : Int32) (x17 : Int32) (x18 : Int32) (x19 : Int32) (x20 : Int32) (x21 : Int32) (w15 : TS) => gBd (fun (x24 : Int32) (x25 : Int32) (x26 : Int32) (x27 : Int32) (x28 : Int32) (w23 : TS) => gBd (x28 + (nI 1)) fun x29 => k7 x24 x25 x26 x27 x29 w23) fun k22 => if x21 = 0 then k22 x16 x17 x18 x19 x20 w15 else gB2 (t_X2_at x16 x20 (nI 5) w15) fun x32 w31 => gB1 (tLd w31 5 x32) fun x33 => if x33 ≤ x19 then k22 x16 x17 x18 x19 x20 w31 else gB2 (t_X2_isFor x16 x20 x17 w31) fun x36 w35 => if x36 = 0 then k22 x16 x17 x18 x19 x20 w35 else gB2 (t_X2_at x16 x20 (nI 5) w35) fun x39 w38 => gB1 (tLd w38 5 x39) fun x40 => k22 x16 x17 x20 x40 x20 w38) fun k14 => gBd (fun (x43 : Int32) (x44 : Int32) (x45 : Int32) (x46 : Int32) (x47 : Int32) (w42 : TS) => k14 x43 x44 x45 x46 x47 (nI 0) w42) fun k41 => if x13 = (nI 1) then gB2 (t_X2_at x2 x6 (nI 0) w12) fun x50 w49 => gB1 (tLd w49 5 x50) fun x51 => if x51 = (nI 2) then gB2 (t_X2_nodePart x2 x6 (nI 4) w49) fun x54 w53 => if x54 < 0 then k41 x2 x3 x4 x5 x6 w53 else gB2 (t_X2_at x2 x6 (nI 6) w53) fun x57 w56 => gB1 (tLd w56 5 x57) fun x58 => if x58 = 0 then k14 x2 x3 x4 x5 x6 (nI 1) w56 else k41 x2 x3 x4 x5 x6 w56 else k41 x2 x3 x4 x5 x6 w49 else k41 x2 x3 x4 x5 x6 w12) 20000 p1 p2 (-1) (nI 0) (nI 0) w0
set_option maxHeartbeats 4000000 in
set_option maxRecDepth 100000 in
theorem kt_X2_nextToCompensate {D : va_G} {dA : Nat → ClassId} {A : Nat → Prop} {K : Nat → Nat} {l : Launch} {wb : gw} {ad : Nat → Nat} (hinj : tInj ad) {h : Nat} (hh : 4 ≤ h) {p1 : Int32} {p2 : Int32} {w0 ww : TS} {rr : Int32} (hf : t_X2_nextToCompensate p1 p2 w0 = some (rr, ww)) : gMet D dA A K l yX2_nextToCompensate (ws_ yX2_nextToCompensate cX2_nextToCompensate 7 (some .int)) h [(ga (some (ad 0))), (gi p1), (gi p2)] (some (gi rr)) (twOf wb ad w0) (twOf wb ad ww) := by
  refine j_start (own := RX2) (by decide +kernel) rfl (Nat.le_of_ble_eq_true rfl) ?_
  intro p e R s m args below meth c C hr hin hw
  unfold t_X2_nextToCompensate at hf
  show gJ D dA A K p l e R s m args below meth c (gEnd D dA A K below args s (twOf wb ad w0) (some (gi rr)) (twOf wb ad ww)) 7 0 [(0, (ga (some (ad 0)))), (1, (gi p1)), (2, (gi p2))] [] (twOf wb ad w0)
  refine j_iconst (v := (-1)) C dX2_nextToCompensate_0 (by decide) ?_
  refine j_istore_n (lv' := [(3, (gi (-1))), (0, (ga (some (ad 0)))), (1, (gi p1)), (2, (gi p2))]) C dX2_nextToCompensate_1 (by decide) rfl ?_
  refine j_iconst (v := (nI 0)) C dX2_nextToCompensate_2 (by decide) ?_
  refine j_istore (lv' := [(4, (gi (nI 0))), (3, (gi (-1))), (0, (ga (some (ad 0)))), (1, (gi p1)), (2, (gi p2))]) C dX2_nextToCompensate_3 (by decide) rfl ?_
  refine j_iconst (v := (nI 0)) C dX2_nextToCompensate_5 (by decide) ?_
  refine j_istore (lv' := [(5, (gi (nI 0))), (4, (gi (nI 0))), (3, (gi (-1))), (0, (ga (some (ad 0)))), (1, (gi p1)), (2, (gi p2))]) C dX2_nextToCompensate_6 (by decide) rfl ?_
  refine j_sub (lv' := [(0, (ga (some (ad 0)))), (1, (gi p1)), (2, (gi p2)), (3, (gi (-1))), (4, (gi (nI 0))), (5, (gi (nI 0)))]) (gL_cons rfl (gL_cons rfl (gL_cons rfl (gL_cons rfl (gL_cons rfl (gL_cons rfl (gL_nil))))))) ?_
  refine gL5_e (fun (x2 : Int32) (x3 : Int32) (x4 : Int32) (x5 : Int32) (x6 : Int32) (w1 : TS) => gJ D dA A K p l e R s m args below meth c (gEnd D dA A K below args s (twOf wb ad w0) (some (gi rr)) (twOf wb ad ww)) 7 8 [(0, (ga (some (ad 0)))), (1, (gi x2)), (2, (gi x3)), (3, (gi x4)), (4, (gi x5)), (5, (gi x6))] [] (twOf wb ad w1)) ?_ _ _ _ _ _ _ _ hf
  intro k7 jk7 x2 x3 x4 x5 x6 w1 hf
  refine j_iload C dX2_nextToCompensate_8 rfl ?_
  refine j_aload_n C dX2_nextToCompensate_10 rfl ?_
  refine j_get (v := (ga (some (ad 3)))) C fl_X2_16_2 dX2_nextToCompensate_11 (tw_F hinj rfl) ?_
  refine j_iconst (v := (nI 4)) C dX2_nextToCompensate_14 (by decide) ?_
  refine j_aload_n C dX2_nextToCompensate_15 rfl ?_
  refine j_iload_n C dX2_nextToCompensate_16 rfl ?_
  replace hf := gB2_e hf
  obtain ⟨x9, w8, ew8, hf⟩ := hf
  refine j_callV (As := [(gi x2)]) (rest := [(gi (nI 4)), (ga (some (ad 3))), (gi x6)]) (v := (some (gi x9))) C (by omega) (kt_X2_versionOf hinj (by omega) ew8) (tw_cls hinj) rfl q1816 q1818 qs61 q93 q1819 ⟨rfl, hd_X2_versionOf⟩ (by decide) rfl (Nat.le_of_ble_eq_true rfl) dX2_nextToCompensate_17 ?_
  refine j_imul C dX2_nextToCompensate_20 ?_
  replace hf := gB1_e hf
  obtain ⟨x10, ex10, hf⟩ := hf
  refine j_iald C (tw_ld hinj ex10) dX2_nextToCompensate_21 ?_
  refine j_icmp_ge (tgt := 143) C dX2_nextToCompensate_22 (by decide) (fun c11 => ?_) (fun c11 => ?_)
  · replace hf := gIf_t hf c11
    refine j_iload_n C dX2_nextToCompensate_143 rfl ?_
    obtain ⟨rfl, rfl⟩ := gSome hf
    exact j_iret C hr hw dX2_nextToCompensate_144
  · replace hf := gIf_f hf c11
    refine j_aload_n C dX2_nextToCompensate_25 rfl ?_
    refine j_iload_n C dX2_nextToCompensate_26 rfl ?_
    refine j_iload C dX2_nextToCompensate_27 rfl ?_
    refine j_iconst (v := (nI 0)) C dX2_nextToCompensate_29 (by decide) ?_
    replace hf := gB2_e hf
    obtain ⟨x13, w12, ew12, hf⟩ := hf
    refine j_callV (As := [(gi x2), (gi x6), (gi (nI 0))]) (rest := []) (v := (some (gi x13))) C (by omega) (kt_X2_nodePart hinj (by omega) ew12) (tw_cls hinj) rfl q1812 q1814 qs60 q93 q1815 ⟨rfl, hd_X2_nodePart⟩ (by decide) rfl (Nat.le_of_ble_eq_true rfl) dX2_nextToCompensate_30 ?_
    refine j_iconst (v := (nI 1)) C dX2_nextToCompensate_33 (by decide) ?_
    replace hf := gBd_x hf
    obtain ⟨k14, ek14, hf⟩ := hf
    have jk14 : ∀ (x16 : Int32) (x17 : Int32) (x18 : Int32) (x19 : Int32) (x20 : Int32) (x21 : Int32) (w15 : TS), k14 x16 x17 x18 x19 x20 x21 w15 = some (rr, ww) → gJ D dA A K p l e R s m args below meth c (gEnd D dA A K below args s (twOf wb ad w0) (some (gi rr)) (twOf wb ad ww)) 7 85 [(0, (ga (some (ad 0)))), (1, (gi x16)), (2, (gi x17)), (3, (gi x18)), (4, (gi x19)), (5, (gi x20))] [(gi x21)] (twOf wb ad w15) := by
      intro x16 x17 x18 x19 x20 x21 w15 hf
      rw [ek14] at hf
      dsimp only at hf
      refine j_istore (lv' := [(6, (gi x21)), (0, (ga (some (ad 0)))), (1, (gi x16)), (2, (gi x17)), (3, (gi x18)), (4, (gi x19)), (5, (gi x20))]) C dX2_nextToCompensate_85 (by decide) rfl ?_
      refine j_iload C dX2_nextToCompensate_87 rfl ?_
      replace hf := gBd_x hf
      obtain ⟨k22, ek22, hf⟩ := hf
      have jk22 : ∀ (x24 : Int32) (x25 : Int32) (x26 : Int32) (x27 : Int32) (x28 : Int32) (w23 : TS), k22 x24 x25 x26 x27 x28 w23 = some (rr, ww) → gJ D dA A K p l e R s m args below meth c (gEnd D dA A K below args s (twOf wb ad w0) (some (gi rr)) (twOf wb ad ww)) 7 137 [(0, (ga (some (ad 0)))), (1, (gi x24)), (2, (gi x25)), (3, (gi x26)), (4, (gi x27)), (5, (gi x28))] [] (twOf wb ad w23) := by
        intro x24 x25 x26 x27 x28 w23 hf
        rw [ek22] at hf
        dsimp only at hf
        replace hf := gBd_x hf
        obtain ⟨x29, ex29, hf⟩ := hf
        refine j_iinc (v := x29) (lv' := [(5, (gi x29)), (0, (ga (some (ad 0)))), (1, (gi x24)), (2, (gi x25)), (3, (gi x26)), (4, (gi x27))]) C dX2_nextToCompensate_137 rfl (by rw [ex29]; rfl) (by decide) rfl ?_
        refine j_goto (tgt := 8) C dX2_nextToCompensate_140 (by decide) ?_
        refine j_sub (lv' := [(0, (ga (some (ad 0)))), (1, (gi x24)), (2, (gi x25)), (3, (gi x26)), (4, (gi x27)), (5, (gi x29))]) (gL_cons rfl (gL_cons rfl (gL_cons rfl (gL_cons rfl (gL_cons rfl (gL_cons rfl (gL_nil))))))) ?_
        exact jk7 _ _ _ _ _ _ hf
      clear ek22
      refine j_if_eq (tgt := 137) C dX2_nextToCompensate_89 (by decide) (fun c30 => ?_) (fun c30 => ?_)
      · replace hf := gIf_t hf c30
        refine j_sub (lv' := [(0, (ga (some (ad 0)))), (1, (gi x16)), (2, (gi x17)), (3, (gi x18)), (4, (gi x19)), (5, (gi x20))]) (gL_cons rfl (gL_cons rfl (gL_cons rfl (gL_cons rfl (gL_cons rfl (gL_cons rfl (gL_nil))))))) ?_
        exact jk22 _ _ _ _ _ _ hf
      · replace hf := gIf_f hf c30
        refine j_aload_n C dX2_nextToCompensate_92 rfl ?_
        refine j_get (v := (ga (some (ad 5)))) C fl_X2_22_2 dX2_nextToCompensate_93 (tw_F hinj rfl) ?_
        refine j_iload_n C dX2_nextToCompensate_96 rfl ?_
        refine j_iload C dX2_nextToCompensate_97 rfl ?_
        refine j_iconst (v := (nI 5)) C dX2_nextToCompensate_99 (by decide) ?_
        replace hf := gB2_e hf
        obtain ⟨x32, w31, ew31, hf⟩ := hf
        refine j_callS (As := [(gi x16), (gi x20), (gi (nI 5))]) (rest := [(ga (some (ad 5)))]) (v := (some (gi x32))) C (by omega) (kt_X2_at hinj (by omega) ew31) q1801 q1802 q93 q1803 hd_X2_at (by decide) rfl (Nat.le_of_ble_eq_true rfl) dX2_nextToCompensate_100 ?_
        replace hf := gB1_e hf
        obtain ⟨x33, ex33, hf⟩ := hf
        refine j_iald C (tw_ld hinj ex33) dX2_nextToCompensate_103 ?_
        refine j_iload C dX2_nextToCompensate_104 rfl ?_
        refine j_icmp_le (tgt := 137) C dX2_nextToCompensate_106 (by decide) (fun c34 => ?_) (fun c34 => ?_)
        · replace hf := gIf_t hf c34
          refine j_sub (lv' := [(0, (ga (some (ad 0)))), (1, (gi x16)), (2, (gi x17)), (3, (gi x18)), (4, (gi x19)), (5, (gi x20))]) (gL_cons rfl (gL_cons rfl (gL_cons rfl (gL_cons rfl (gL_cons rfl (gL_cons rfl (gL_nil))))))) ?_
          exact jk22 _ _ _ _ _ _ hf
        · replace hf := gIf_f hf c34
          refine j_aload_n C dX2_nextToCompensate_109 rfl ?_
          refine j_iload_n C dX2_nextToCompensate_110 rfl ?_
          refine j_iload C dX2_nextToCompensate_111 rfl ?_
          refine j_iload_n C dX2_nextToCompensate_113 rfl ?_
          replace hf := gB2_e hf
          obtain ⟨x36, w35, ew35, hf⟩ := hf
          refine j_callV (As := [(gi x16), (gi x20), (gi x17)]) (rest := []) (v := (some (gi x36))) C (by omega) (kt_X2_isFor hinj (by omega) ew35) (tw_cls hinj) rfl q1880 q1882 qs77 q93 q1883 ⟨rfl, hd_X2_isFor⟩ (by decide) rfl (Nat.le_of_ble_eq_true rfl) dX2_nextToCompensate_114 ?_
          refine j_if_eq (tgt := 137) C dX2_nextToCompensate_117 (by decide) (fun c37 => ?_) (fun c37 => ?_)
          · replace hf := gIf_t hf c37
            refine j_sub (lv' := [(0, (ga (some (ad 0)))), (1, (gi x16)), (2, (gi x17)), (3, (gi x18)), (4, (gi x19)), (5, (gi x20))]) (gL_cons rfl (gL_cons rfl (gL_cons rfl (gL_cons rfl (gL_cons rfl (gL_cons rfl (gL_nil))))))) ?_
            exact jk22 _ _ _ _ _ _ hf
          · replace hf := gIf_f hf c37
            refine j_iload C dX2_nextToCompensate_120 rfl ?_
            refine j_istore_n (lv' := [(3, (gi x20)), (6, (gi x21)), (0, (ga (some (ad 0)))), (1, (gi x16)), (2, (gi x17)), (4, (gi x19)), (5, (gi x20))]) C dX2_nextToCompensate_122 (by decide) rfl ?_
            refine j_aload_n C dX2_nextToCompensate_123 rfl ?_
            refine j_get (v := (ga (some (ad 5)))) C fl_X2_22_2 dX2_nextToCompensate_124 (tw_F hinj rfl) ?_
            refine j_iload_n C dX2_nextToCompensate_127 rfl ?_
            refine j_iload C dX2_nextToCompensate_128 rfl ?_
            refine j_iconst (v := (nI 5)) C dX2_nextToCompensate_130 (by decide) ?_
            replace hf := gB2_e hf
            obtain ⟨x39, w38, ew38, hf⟩ := hf
            refine j_callS (As := [(gi x16), (gi x20), (gi (nI 5))]) (rest := [(ga (some (ad 5)))]) (v := (some (gi x39))) C (by omega) (kt_X2_at hinj (by omega) ew38) q1801 q1802 q93 q1803 hd_X2_at (by decide) rfl (Nat.le_of_ble_eq_true rfl) dX2_nextToCompensate_131 ?_
            replace hf := gB1_e hf
            obtain ⟨x40, ex40, hf⟩ := hf
            refine j_iald C (tw_ld hinj ex40) dX2_nextToCompensate_134 ?_
            refine j_istore (lv' := [(4, (gi x40)), (3, (gi x20)), (6, (gi x21)), (0, (ga (some (ad 0)))), (1, (gi x16)), (2, (gi x17)), (5, (gi x20))]) C dX2_nextToCompensate_135 (by decide) rfl ?_
            refine j_sub (lv' := [(0, (ga (some (ad 0)))), (1, (gi x16)), (2, (gi x17)), (3, (gi x20)), (4, (gi x40)), (5, (gi x20))]) (gL_cons rfl (gL_cons rfl (gL_cons rfl (gL_cons rfl (gL_cons rfl (gL_cons rfl (gL_nil))))))) ?_
            exact jk22 _ _ _ _ _ _ hf
    clear ek14
    replace hf := gBd_x hf
    obtain ⟨k41, ek41, hf⟩ := hf
    have jk41 : ∀ (x43 : Int32) (x44 : Int32) (x45 : Int32) (x46 : Int32) (x47 : Int32) (w42 : TS), k41 x43 x44 x45 x46 x47 w42 = some (rr, ww) → gJ D dA A K p l e R s m args below meth c (gEnd D dA A K below args s (twOf wb ad w0) (some (gi rr)) (twOf wb ad ww)) 7 84 [(0, (ga (some (ad 0)))), (1, (gi x43)), (2, (gi x44)), (3, (gi x45)), (4, (gi x46)), (5, (gi x47))] [] (twOf wb ad w42) := by
      intro x43 x44 x45 x46 x47 w42 hf
      rw [ek41] at hf
      dsimp only at hf
      refine j_iconst (v := (nI 0)) C dX2_nextToCompensate_84 (by decide) ?_
      exact jk14 _ _ _ _ _ _ _ hf
    clear ek41
    refine j_icmp_ne (tgt := 84) C dX2_nextToCompensate_34 (by decide) (fun c48 => ?_) (fun c48 => ?_)
    · replace hf := gIf_f hf c48
      exact jk41 _ _ _ _ _ _ hf
    · replace hf := gIf_t hf c48
      refine j_aload_n C dX2_nextToCompensate_37 rfl ?_
      refine j_get (v := (ga (some (ad 5)))) C fl_X2_22_2 dX2_nextToCompensate_38 (tw_F hinj rfl) ?_
      refine j_iload_n C dX2_nextToCompensate_41 rfl ?_
      refine j_iload C dX2_nextToCompensate_42 rfl ?_
      refine j_iconst (v := (nI 0)) C dX2_nextToCompensate_44 (by decide) ?_
      replace hf := gB2_e hf
      obtain ⟨x50, w49, ew49, hf⟩ := hf
      refine j_callS (As := [(gi x2), (gi x6), (gi (nI 0))]) (rest := [(ga (some (ad 5)))]) (v := (some (gi x50))) C (by omega) (kt_X2_at hinj (by omega) ew49) q1801 q1802 q93 q1803 hd_X2_at (by decide) rfl (Nat.le_of_ble_eq_true rfl) dX2_nextToCompensate_45 ?_
      replace hf := gB1_e hf
      obtain ⟨x51, ex51, hf⟩ := hf
      refine j_iald C (tw_ld hinj ex51) dX2_nextToCompensate_48 ?_
      refine j_iconst (v := (nI 2)) C dX2_nextToCompensate_49 (by decide) ?_
      refine j_icmp_ne (tgt := 84) C dX2_nextToCompensate_50 (by decide) (fun c52 => ?_) (fun c52 => ?_)
      · replace hf := gIf_f hf c52
        exact jk41 _ _ _ _ _ _ hf
      · replace hf := gIf_t hf c52
        refine j_aload_n C dX2_nextToCompensate_53 rfl ?_
        refine j_iload_n C dX2_nextToCompensate_54 rfl ?_
        refine j_iload C dX2_nextToCompensate_55 rfl ?_
        refine j_iconst (v := (nI 4)) C dX2_nextToCompensate_57 (by decide) ?_
        replace hf := gB2_e hf
        obtain ⟨x54, w53, ew53, hf⟩ := hf
        refine j_callV (As := [(gi x2), (gi x6), (gi (nI 4))]) (rest := []) (v := (some (gi x54))) C (by omega) (kt_X2_nodePart hinj (by omega) ew53) (tw_cls hinj) rfl q1812 q1814 qs60 q93 q1815 ⟨rfl, hd_X2_nodePart⟩ (by decide) rfl (Nat.le_of_ble_eq_true rfl) dX2_nextToCompensate_58 ?_
        refine j_if_lt (tgt := 84) C dX2_nextToCompensate_61 (by decide) (fun c55 => ?_) (fun c55 => ?_)
        · replace hf := gIf_t hf c55
          exact jk41 _ _ _ _ _ _ hf
        · replace hf := gIf_f hf c55
          refine j_aload_n C dX2_nextToCompensate_64 rfl ?_
          refine j_get (v := (ga (some (ad 5)))) C fl_X2_22_2 dX2_nextToCompensate_65 (tw_F hinj rfl) ?_
          refine j_iload_n C dX2_nextToCompensate_68 rfl ?_
          refine j_iload C dX2_nextToCompensate_69 rfl ?_
          refine j_bipush (v := (nI 6)) C dX2_nextToCompensate_71 (by decide) ?_
          replace hf := gB2_e hf
          obtain ⟨x57, w56, ew56, hf⟩ := hf
          refine j_callS (As := [(gi x2), (gi x6), (gi (nI 6))]) (rest := [(ga (some (ad 5)))]) (v := (some (gi x57))) C (by omega) (kt_X2_at hinj (by omega) ew56) q1801 q1802 q93 q1803 hd_X2_at (by decide) rfl (Nat.le_of_ble_eq_true rfl) dX2_nextToCompensate_73 ?_
          replace hf := gB1_e hf
          obtain ⟨x58, ex58, hf⟩ := hf
          refine j_iald C (tw_ld hinj ex58) dX2_nextToCompensate_76 ?_
          refine j_if_ne (tgt := 84) C dX2_nextToCompensate_77 (by decide) (fun c59 => ?_) (fun c59 => ?_)
          · replace hf := gIf_f hf c59
            exact jk41 _ _ _ _ _ _ hf
          · replace hf := gIf_t hf c59
            refine j_iconst (v := (nI 1)) C dX2_nextToCompensate_80 (by decide) ?_
            refine j_goto (tgt := 85) C dX2_nextToCompensate_81 (by decide) ?_
            exact jk14 _ _ _ _ _ _ _ hf
def dkwX2_running_3 : List UInt8 := [167, 0, 4, 2, 172]
abbrev dktX2_running_3 : List UInt8 := dkwX2_running_3 ++ []
def dkwX2_running_2 : List UInt8 := [27, 21, 4, 16, 7, 182, 0, 171, 172, 132, 3, 1, 132, 4, 1, 167, 255, 208, 28, 2, 160, 0, 7, 29]
abbrev dktX2_running_2 : List UInt8 := dkwX2_running_2 ++ dktX2_running_3
def dkwX2_running_1 : List UInt8 := [182, 0, 166, 104, 46, 162, 0, 37, 42, 27, 21, 4, 182, 1, 0, 153, 0, 21, 29, 28, 160, 0, 13, 42]
abbrev dktX2_running_1 : List UInt8 := dkwX2_running_1 ++ dktX2_running_2
def dkwX2_running_0 : List UInt8 := [42, 27, 182, 0, 243, 154, 0, 5, 2, 172, 3, 62, 3, 54, 4, 21, 4, 42, 180, 0, 16, 7, 42, 27]
abbrev dktX2_running_0 : List UInt8 := dkwX2_running_0 ++ dktX2_running_1
theorem dksX2_running_0 : cX2_running.data.toList.drop 0 = dktX2_running_0 := by decide +kernel
theorem dksX2_running_1 : cX2_running.data.toList.drop 24 = dktX2_running_1 := dk_seg dksX2_running_0 24 rfl rfl
theorem dksX2_running_2 : cX2_running.data.toList.drop 48 = dktX2_running_2 := dk_seg dksX2_running_1 24 rfl rfl
theorem dksX2_running_3 : cX2_running.data.toList.drop 72 = dktX2_running_3 := dk_seg dksX2_running_2 24 rfl rfl
theorem dX2_running_0 : decode cX2_running 0 = .ok (.aload_n 0, 1) := dk_42 (dk_at dksX2_running_0 0 rfl rfl)
theorem dX2_running_1 : decode cX2_running 1 = .ok (.iload_n 1, 1) := dk_27 (dk_at dksX2_running_0 1 rfl rfl)
theorem dX2_running_2 : decode cX2_running 2 = .ok (.invokevirtual 243, 3) := dk_182 0 243 (dk_at dksX2_running_0 2 rfl rfl)
theorem dX2_running_5 : decode cX2_running 5 = .ok (.ifCond .ne 5, 3) := dk_154 0 5 (dk_at dksX2_running_0 5 rfl rfl)
theorem dX2_running_8 : decode cX2_running 8 = .ok (.iconst (-1), 1) := dk_2 (dk_at dksX2_running_0 8 rfl rfl)
theorem dX2_running_9 : decode cX2_running 9 = .ok (.ireturn, 1) := dk_172 (dk_at dksX2_running_0 9 rfl rfl)
theorem dX2_running_10 : decode cX2_running 10 = .ok (.iconst 0, 1) := dk_3 (dk_at dksX2_running_0 10 rfl rfl)
theorem dX2_running_11 : decode cX2_running 11 = .ok (.istore_n 3, 1) := dk_62 (dk_at dksX2_running_0 11 rfl rfl)
theorem dX2_running_12 : decode cX2_running 12 = .ok (.iconst 0, 1) := dk_3 (dk_at dksX2_running_0 12 rfl rfl)
theorem dX2_running_13 : decode cX2_running 13 = .ok (.istore 4, 2) := dk_54 4 (dk_at dksX2_running_0 13 rfl rfl)
theorem dX2_running_15 : decode cX2_running 15 = .ok (.iload 4, 2) := dk_21 4 (dk_at dksX2_running_0 15 rfl rfl)
theorem dX2_running_17 : decode cX2_running 17 = .ok (.aload_n 0, 1) := dk_42 (dk_at dksX2_running_0 17 rfl rfl)
theorem dX2_running_18 : decode cX2_running 18 = .ok (.getfield 16, 3) := dk_180 0 16 (dk_at dksX2_running_0 18 rfl rfl)
theorem dX2_running_21 : decode cX2_running 21 = .ok (.iconst 4, 1) := dk_7 (dk_at dksX2_running_0 21 rfl rfl)
theorem dX2_running_22 : decode cX2_running 22 = .ok (.aload_n 0, 1) := dk_42 (dk_at dksX2_running_0 22 rfl rfl)
theorem dX2_running_23 : decode cX2_running 23 = .ok (.iload_n 1, 1) := dk_27 (dk_at dksX2_running_0 23 rfl rfl)
theorem dX2_running_24 : decode cX2_running 24 = .ok (.invokevirtual 166, 3) := dk_182 0 166 (dk_at dksX2_running_1 0 rfl rfl)
theorem dX2_running_27 : decode cX2_running 27 = .ok (.imul, 1) := dk_104 (dk_at dksX2_running_1 3 rfl rfl)
theorem dX2_running_28 : decode cX2_running 28 = .ok (.iaload, 1) := dk_46 (dk_at dksX2_running_1 4 rfl rfl)
theorem dX2_running_29 : decode cX2_running 29 = .ok (.if_icmp .ge 37, 3) := dk_162 0 37 (dk_at dksX2_running_1 5 rfl rfl)
theorem dX2_running_32 : decode cX2_running 32 = .ok (.aload_n 0, 1) := dk_42 (dk_at dksX2_running_1 8 rfl rfl)
theorem dX2_running_33 : decode cX2_running 33 = .ok (.iload_n 1, 1) := dk_27 (dk_at dksX2_running_1 9 rfl rfl)
theorem dX2_running_34 : decode cX2_running 34 = .ok (.iload 4, 2) := dk_21 4 (dk_at dksX2_running_1 10 rfl rfl)
theorem dX2_running_36 : decode cX2_running 36 = .ok (.invokevirtual 256, 3) := dk_182 1 0 (dk_at dksX2_running_1 12 rfl rfl)
theorem dX2_running_39 : decode cX2_running 39 = .ok (.ifCond .eq 21, 3) := dk_153 0 21 (dk_at dksX2_running_1 15 rfl rfl)
theorem dX2_running_42 : decode cX2_running 42 = .ok (.iload_n 3, 1) := dk_29 (dk_at dksX2_running_1 18 rfl rfl)
theorem dX2_running_43 : decode cX2_running 43 = .ok (.iload_n 2, 1) := dk_28 (dk_at dksX2_running_1 19 rfl rfl)
theorem dX2_running_44 : decode cX2_running 44 = .ok (.if_icmp .ne 13, 3) := dk_160 0 13 (dk_at dksX2_running_1 20 rfl rfl)
theorem dX2_running_47 : decode cX2_running 47 = .ok (.aload_n 0, 1) := dk_42 (dk_at dksX2_running_1 23 rfl rfl)
theorem dX2_running_48 : decode cX2_running 48 = .ok (.iload_n 1, 1) := dk_27 (dk_at dksX2_running_2 0 rfl rfl)
theorem dX2_running_49 : decode cX2_running 49 = .ok (.iload 4, 2) := dk_21 4 (dk_at dksX2_running_2 1 rfl rfl)
theorem dX2_running_51 : decode cX2_running 51 = .ok (.bipush 7, 2) := dk_16 7 (dk_at dksX2_running_2 3 rfl rfl)
theorem dX2_running_53 : decode cX2_running 53 = .ok (.invokevirtual 171, 3) := dk_182 0 171 (dk_at dksX2_running_2 5 rfl rfl)
theorem dX2_running_56 : decode cX2_running 56 = .ok (.ireturn, 1) := dk_172 (dk_at dksX2_running_2 8 rfl rfl)
theorem dX2_running_57 : decode cX2_running 57 = .ok (.iinc 3 1, 3) := dk_132 3 1 (dk_at dksX2_running_2 9 rfl rfl)
theorem dX2_running_60 : decode cX2_running 60 = .ok (.iinc 4 1, 3) := dk_132 4 1 (dk_at dksX2_running_2 12 rfl rfl)
theorem dX2_running_63 : decode cX2_running 63 = .ok (.goto (-48), 3) := dk_167 255 208 (dk_at dksX2_running_2 15 rfl rfl)
theorem dX2_running_66 : decode cX2_running 66 = .ok (.iload_n 2, 1) := dk_28 (dk_at dksX2_running_2 18 rfl rfl)
theorem dX2_running_67 : decode cX2_running 67 = .ok (.iconst (-1), 1) := dk_2 (dk_at dksX2_running_2 19 rfl rfl)
theorem dX2_running_68 : decode cX2_running 68 = .ok (.if_icmp .ne 7, 3) := dk_160 0 7 (dk_at dksX2_running_2 20 rfl rfl)
theorem dX2_running_71 : decode cX2_running 71 = .ok (.iload_n 3, 1) := dk_29 (dk_at dksX2_running_2 23 rfl rfl)
theorem dX2_running_72 : decode cX2_running 72 = .ok (.goto 4, 3) := dk_167 0 4 (dk_at dksX2_running_3 0 rfl rfl)
theorem dX2_running_75 : decode cX2_running 75 = .ok (.iconst (-1), 1) := dk_2 (dk_at dksX2_running_3 3 rfl rfl)
theorem dX2_running_76 : decode cX2_running 76 = .ok (.ireturn, 1) := dk_172 (dk_at dksX2_running_3 4 rfl rfl)
def t_X2_running (p1 : Int32) (p2 : Int32) (w0 : TS) : Option (Int32 × TS) := gB2 (t_X2_isInstance p1 w0) fun x2 w1 => if x2 = 0 then some ((-1), w1) else gL4 (fun k9 (x5 : Int32) (x6 : Int32) (x7 : Int32) (x8 : Int32) (w4 : TS) => gB2 (t_X2_versionOf x5 w4) fun x11 w10 => gB1 (tLd w10 3 ((nI 4) * x11)) fun x12 => if x12 ≤ x8 then if x6 = (-1) then some (x7, w10) else some ((-1), w10) else gB2 (t_X2_runs x5 x8 w10) fun x16 w15 => gBd (fun (x19 : Int32) (x20 : Int32) (x21 : Int32) (x22 : Int32) (w18 : TS) => gBd (x22 + (nI 1)) fun x23 => k9 x19 x20 x21 x23 w18) fun k17 => if x16 = 0 then k17 x5 x6 x7 x8 w15 else if x7 = x6 then gB2 (t_X2_nodePart x5 x8 (nI 7) w15) fun x28 w27 => some (x28, w27) else gBd (x7 + (nI 1)) fun x26 => k17 x5 x6 x26 x8 w15) 20000 p1 p2 (nI 0) (nI 0) w1
set_option maxHeartbeats 4000000 in
set_option maxRecDepth 100000 in
theorem kt_X2_running {D : va_G} {dA : Nat → ClassId} {A : Nat → Prop} {K : Nat → Nat} {l : Launch} {wb : gw} {ad : Nat → Nat} (hinj : tInj ad) {h : Nat} (hh : 4 ≤ h) {p1 : Int32} {p2 : Int32} {w0 ww : TS} {rr : Int32} (hf : t_X2_running p1 p2 w0 = some (rr, ww)) : gMet D dA A K l yX2_running (ws_ yX2_running cX2_running 5 (some .int)) h [(ga (some (ad 0))), (gi p1), (gi p2)] (some (gi rr)) (twOf wb ad w0) (twOf wb ad ww) := by
  refine j_start (own := RX2) (by decide +kernel) rfl (Nat.le_of_ble_eq_true rfl) ?_
  intro p e R s m args below meth c C hr hin hw
  unfold t_X2_running at hf
  show gJ D dA A K p l e R s m args below meth c (gEnd D dA A K below args s (twOf wb ad w0) (some (gi rr)) (twOf wb ad ww)) 5 0 [(0, (ga (some (ad 0)))), (1, (gi p1)), (2, (gi p2))] [] (twOf wb ad w0)
  refine j_aload_n C dX2_running_0 rfl ?_
  refine j_iload_n C dX2_running_1 rfl ?_
  replace hf := gB2_e hf
  obtain ⟨x2, w1, ew1, hf⟩ := hf
  refine j_callV (As := [(gi p1)]) (rest := []) (v := (some (gi x2))) C (by omega) (kt_X2_isInstance hinj (by omega) ew1) (tw_cls hinj) rfl q1900 q1902 qs81 q93 q1903 ⟨rfl, hd_X2_isInstance⟩ (by decide) rfl (Nat.le_of_ble_eq_true rfl) dX2_running_2 ?_
  refine j_if_ne (tgt := 10) C dX2_running_5 (by decide) (fun c3 => ?_) (fun c3 => ?_)
  · replace hf := gIf_f hf c3
    refine j_iconst (v := (nI 0)) C dX2_running_10 (by decide) ?_
    refine j_istore_n (lv' := [(3, (gi (nI 0))), (0, (ga (some (ad 0)))), (1, (gi p1)), (2, (gi p2))]) C dX2_running_11 (by decide) rfl ?_
    refine j_iconst (v := (nI 0)) C dX2_running_12 (by decide) ?_
    refine j_istore (lv' := [(4, (gi (nI 0))), (3, (gi (nI 0))), (0, (ga (some (ad 0)))), (1, (gi p1)), (2, (gi p2))]) C dX2_running_13 (by decide) rfl ?_
    refine j_sub (lv' := [(0, (ga (some (ad 0)))), (1, (gi p1)), (2, (gi p2)), (3, (gi (nI 0))), (4, (gi (nI 0)))]) (gL_cons rfl (gL_cons rfl (gL_cons rfl (gL_cons rfl (gL_cons rfl (gL_nil)))))) ?_
    refine gL4_e (fun (x5 : Int32) (x6 : Int32) (x7 : Int32) (x8 : Int32) (w4 : TS) => gJ D dA A K p l e R s m args below meth c (gEnd D dA A K below args s (twOf wb ad w0) (some (gi rr)) (twOf wb ad ww)) 5 15 [(0, (ga (some (ad 0)))), (1, (gi x5)), (2, (gi x6)), (3, (gi x7)), (4, (gi x8))] [] (twOf wb ad w4)) ?_ _ _ _ _ _ _ hf
    intro k9 jk9 x5 x6 x7 x8 w4 hf
    refine j_iload C dX2_running_15 rfl ?_
    refine j_aload_n C dX2_running_17 rfl ?_
    refine j_get (v := (ga (some (ad 3)))) C fl_X2_16_2 dX2_running_18 (tw_F hinj rfl) ?_
    refine j_iconst (v := (nI 4)) C dX2_running_21 (by decide) ?_
    refine j_aload_n C dX2_running_22 rfl ?_
    refine j_iload_n C dX2_running_23 rfl ?_
    replace hf := gB2_e hf
    obtain ⟨x11, w10, ew10, hf⟩ := hf
    refine j_callV (As := [(gi x5)]) (rest := [(gi (nI 4)), (ga (some (ad 3))), (gi x8)]) (v := (some (gi x11))) C (by omega) (kt_X2_versionOf hinj (by omega) ew10) (tw_cls hinj) rfl q1816 q1818 qs61 q93 q1819 ⟨rfl, hd_X2_versionOf⟩ (by decide) rfl (Nat.le_of_ble_eq_true rfl) dX2_running_24 ?_
    refine j_imul C dX2_running_27 ?_
    replace hf := gB1_e hf
    obtain ⟨x12, ex12, hf⟩ := hf
    refine j_iald C (tw_ld hinj ex12) dX2_running_28 ?_
    refine j_icmp_ge (tgt := 66) C dX2_running_29 (by decide) (fun c13 => ?_) (fun c13 => ?_)
    · replace hf := gIf_t hf c13
      refine j_iload_n C dX2_running_66 rfl ?_
      refine j_iconst (v := (-1)) C dX2_running_67 (by decide) ?_
      refine j_icmp_ne (tgt := 75) C dX2_running_68 (by decide) (fun c14 => ?_) (fun c14 => ?_)
      · replace hf := gIf_f hf c14
        refine j_iconst (v := (-1)) C dX2_running_75 (by decide) ?_
        obtain ⟨rfl, rfl⟩ := gSome hf
        exact j_iret C hr hw dX2_running_76
      · replace hf := gIf_t hf c14
        refine j_iload_n C dX2_running_71 rfl ?_
        refine j_goto (tgt := 76) C dX2_running_72 (by decide) ?_
        obtain ⟨rfl, rfl⟩ := gSome hf
        exact j_iret C hr hw dX2_running_76
    · replace hf := gIf_f hf c13
      refine j_aload_n C dX2_running_32 rfl ?_
      refine j_iload_n C dX2_running_33 rfl ?_
      refine j_iload C dX2_running_34 rfl ?_
      replace hf := gB2_e hf
      obtain ⟨x16, w15, ew15, hf⟩ := hf
      refine j_callV (As := [(gi x5), (gi x8)]) (rest := []) (v := (some (gi x16))) C (by omega) (kt_X2_runs hinj (by omega) ew15) (tw_cls hinj) rfl q1938 q1940 qs84 q93 q1941 ⟨rfl, hd_X2_runs⟩ (by decide) rfl (Nat.le_of_ble_eq_true rfl) dX2_running_36 ?_
      replace hf := gBd_x hf
      obtain ⟨k17, ek17, hf⟩ := hf
      have jk17 : ∀ (x19 : Int32) (x20 : Int32) (x21 : Int32) (x22 : Int32) (w18 : TS), k17 x19 x20 x21 x22 w18 = some (rr, ww) → gJ D dA A K p l e R s m args below meth c (gEnd D dA A K below args s (twOf wb ad w0) (some (gi rr)) (twOf wb ad ww)) 5 60 [(0, (ga (some (ad 0)))), (1, (gi x19)), (2, (gi x20)), (3, (gi x21)), (4, (gi x22))] [] (twOf wb ad w18) := by
        intro x19 x20 x21 x22 w18 hf
        rw [ek17] at hf
        dsimp only at hf
        replace hf := gBd_x hf
        obtain ⟨x23, ex23, hf⟩ := hf
        refine j_iinc (v := x23) (lv' := [(4, (gi x23)), (0, (ga (some (ad 0)))), (1, (gi x19)), (2, (gi x20)), (3, (gi x21))]) C dX2_running_60 rfl (by rw [ex23]; rfl) (by decide) rfl ?_
        refine j_goto (tgt := 15) C dX2_running_63 (by decide) ?_
        refine j_sub (lv' := [(0, (ga (some (ad 0)))), (1, (gi x19)), (2, (gi x20)), (3, (gi x21)), (4, (gi x23))]) (gL_cons rfl (gL_cons rfl (gL_cons rfl (gL_cons rfl (gL_cons rfl (gL_nil)))))) ?_
        exact jk9 _ _ _ _ _ hf
      clear ek17
      refine j_if_eq (tgt := 60) C dX2_running_39 (by decide) (fun c24 => ?_) (fun c24 => ?_)
      · replace hf := gIf_t hf c24
        exact jk17 _ _ _ _ _ hf
      · replace hf := gIf_f hf c24
        refine j_iload_n C dX2_running_42 rfl ?_
        refine j_iload_n C dX2_running_43 rfl ?_
        refine j_icmp_ne (tgt := 57) C dX2_running_44 (by decide) (fun c25 => ?_) (fun c25 => ?_)
        · replace hf := gIf_f hf c25
          replace hf := gBd_x hf
          obtain ⟨x26, ex26, hf⟩ := hf
          refine j_iinc (v := x26) (lv' := [(3, (gi x26)), (0, (ga (some (ad 0)))), (1, (gi x5)), (2, (gi x6)), (4, (gi x8))]) C dX2_running_57 rfl (by rw [ex26]; rfl) (by decide) rfl ?_
          refine j_sub (lv' := [(0, (ga (some (ad 0)))), (1, (gi x5)), (2, (gi x6)), (3, (gi x26)), (4, (gi x8))]) (gL_cons rfl (gL_cons rfl (gL_cons rfl (gL_cons rfl (gL_cons rfl (gL_nil)))))) ?_
          exact jk17 _ _ _ _ _ hf
        · replace hf := gIf_t hf c25
          refine j_aload_n C dX2_running_47 rfl ?_
          refine j_iload_n C dX2_running_48 rfl ?_
          refine j_iload C dX2_running_49 rfl ?_
          refine j_bipush (v := (nI 7)) C dX2_running_51 (by decide) ?_
          replace hf := gB2_e hf
          obtain ⟨x28, w27, ew27, hf⟩ := hf
          refine j_callV (As := [(gi x5), (gi x8), (gi (nI 7))]) (rest := []) (v := (some (gi x28))) C (by omega) (kt_X2_nodePart hinj (by omega) ew27) (tw_cls hinj) rfl q1812 q1814 qs60 q93 q1815 ⟨rfl, hd_X2_nodePart⟩ (by decide) rfl (Nat.le_of_ble_eq_true rfl) dX2_running_53 ?_
          obtain ⟨rfl, rfl⟩ := gSome hf
          exact j_iret C hr hw dX2_running_56
  · replace hf := gIf_t hf c3
    refine j_iconst (v := (-1)) C dX2_running_8 (by decide) ?_
    obtain ⟨rfl, rfl⟩ := gSome hf
    exact j_iret C hr hw dX2_running_9
def dkwX2_due_2 : List UInt8 := [164, 0, 16, 28, 155, 0, 9, 21, 4, 28, 162, 0, 6, 21, 4, 61, 132, 3, 1, 167, 255, 205, 28, 172]
abbrev dktX2_due_2 : List UInt8 := dkwX2_due_2 ++ []
def dkwX2_due_1 : List UInt8 := [182, 0, 166, 104, 46, 162, 0, 41, 42, 27, 29, 182, 1, 3, 54, 4, 21, 4, 42, 180, 0, 22, 3, 46]
abbrev dktX2_due_1 : List UInt8 := dkwX2_due_1 ++ dktX2_due_2
def dkwX2_due_0 : List UInt8 := [42, 27, 182, 0, 243, 154, 0, 5, 2, 172, 16, 251, 61, 3, 62, 29, 42, 180, 0, 16, 7, 42, 27]
abbrev dktX2_due_0 : List UInt8 := dkwX2_due_0 ++ dktX2_due_1
theorem dksX2_due_0 : cX2_due.data.toList.drop 0 = dktX2_due_0 := by decide +kernel
theorem dksX2_due_1 : cX2_due.data.toList.drop 23 = dktX2_due_1 := dk_seg dksX2_due_0 23 rfl rfl
theorem dksX2_due_2 : cX2_due.data.toList.drop 47 = dktX2_due_2 := dk_seg dksX2_due_1 24 rfl rfl
theorem dX2_due_0 : decode cX2_due 0 = .ok (.aload_n 0, 1) := dk_42 (dk_at dksX2_due_0 0 rfl rfl)
theorem dX2_due_1 : decode cX2_due 1 = .ok (.iload_n 1, 1) := dk_27 (dk_at dksX2_due_0 1 rfl rfl)
theorem dX2_due_2 : decode cX2_due 2 = .ok (.invokevirtual 243, 3) := dk_182 0 243 (dk_at dksX2_due_0 2 rfl rfl)
theorem dX2_due_5 : decode cX2_due 5 = .ok (.ifCond .ne 5, 3) := dk_154 0 5 (dk_at dksX2_due_0 5 rfl rfl)
theorem dX2_due_8 : decode cX2_due 8 = .ok (.iconst (-1), 1) := dk_2 (dk_at dksX2_due_0 8 rfl rfl)
theorem dX2_due_9 : decode cX2_due 9 = .ok (.ireturn, 1) := dk_172 (dk_at dksX2_due_0 9 rfl rfl)
theorem dX2_due_10 : decode cX2_due 10 = .ok (.bipush (-5), 2) := dk_16 251 (dk_at dksX2_due_0 10 rfl rfl)
theorem dX2_due_12 : decode cX2_due 12 = .ok (.istore_n 2, 1) := dk_61 (dk_at dksX2_due_0 12 rfl rfl)
theorem dX2_due_13 : decode cX2_due 13 = .ok (.iconst 0, 1) := dk_3 (dk_at dksX2_due_0 13 rfl rfl)
theorem dX2_due_14 : decode cX2_due 14 = .ok (.istore_n 3, 1) := dk_62 (dk_at dksX2_due_0 14 rfl rfl)
theorem dX2_due_15 : decode cX2_due 15 = .ok (.iload_n 3, 1) := dk_29 (dk_at dksX2_due_0 15 rfl rfl)
theorem dX2_due_16 : decode cX2_due 16 = .ok (.aload_n 0, 1) := dk_42 (dk_at dksX2_due_0 16 rfl rfl)
theorem dX2_due_17 : decode cX2_due 17 = .ok (.getfield 16, 3) := dk_180 0 16 (dk_at dksX2_due_0 17 rfl rfl)
theorem dX2_due_20 : decode cX2_due 20 = .ok (.iconst 4, 1) := dk_7 (dk_at dksX2_due_0 20 rfl rfl)
theorem dX2_due_21 : decode cX2_due 21 = .ok (.aload_n 0, 1) := dk_42 (dk_at dksX2_due_0 21 rfl rfl)
theorem dX2_due_22 : decode cX2_due 22 = .ok (.iload_n 1, 1) := dk_27 (dk_at dksX2_due_0 22 rfl rfl)
theorem dX2_due_23 : decode cX2_due 23 = .ok (.invokevirtual 166, 3) := dk_182 0 166 (dk_at dksX2_due_1 0 rfl rfl)
theorem dX2_due_26 : decode cX2_due 26 = .ok (.imul, 1) := dk_104 (dk_at dksX2_due_1 3 rfl rfl)
theorem dX2_due_27 : decode cX2_due 27 = .ok (.iaload, 1) := dk_46 (dk_at dksX2_due_1 4 rfl rfl)
theorem dX2_due_28 : decode cX2_due 28 = .ok (.if_icmp .ge 41, 3) := dk_162 0 41 (dk_at dksX2_due_1 5 rfl rfl)
theorem dX2_due_31 : decode cX2_due 31 = .ok (.aload_n 0, 1) := dk_42 (dk_at dksX2_due_1 8 rfl rfl)
theorem dX2_due_32 : decode cX2_due 32 = .ok (.iload_n 1, 1) := dk_27 (dk_at dksX2_due_1 9 rfl rfl)
theorem dX2_due_33 : decode cX2_due 33 = .ok (.iload_n 3, 1) := dk_29 (dk_at dksX2_due_1 10 rfl rfl)
theorem dX2_due_34 : decode cX2_due 34 = .ok (.invokevirtual 259, 3) := dk_182 1 3 (dk_at dksX2_due_1 11 rfl rfl)
theorem dX2_due_37 : decode cX2_due 37 = .ok (.istore 4, 2) := dk_54 4 (dk_at dksX2_due_1 14 rfl rfl)
theorem dX2_due_39 : decode cX2_due 39 = .ok (.iload 4, 2) := dk_21 4 (dk_at dksX2_due_1 16 rfl rfl)
theorem dX2_due_41 : decode cX2_due 41 = .ok (.aload_n 0, 1) := dk_42 (dk_at dksX2_due_1 18 rfl rfl)
theorem dX2_due_42 : decode cX2_due 42 = .ok (.getfield 22, 3) := dk_180 0 22 (dk_at dksX2_due_1 19 rfl rfl)
theorem dX2_due_45 : decode cX2_due 45 = .ok (.iconst 0, 1) := dk_3 (dk_at dksX2_due_1 22 rfl rfl)
theorem dX2_due_46 : decode cX2_due 46 = .ok (.iaload, 1) := dk_46 (dk_at dksX2_due_1 23 rfl rfl)
theorem dX2_due_47 : decode cX2_due 47 = .ok (.if_icmp .le 16, 3) := dk_164 0 16 (dk_at dksX2_due_2 0 rfl rfl)
theorem dX2_due_50 : decode cX2_due 50 = .ok (.iload_n 2, 1) := dk_28 (dk_at dksX2_due_2 3 rfl rfl)
theorem dX2_due_51 : decode cX2_due 51 = .ok (.ifCond .lt 9, 3) := dk_155 0 9 (dk_at dksX2_due_2 4 rfl rfl)
theorem dX2_due_54 : decode cX2_due 54 = .ok (.iload 4, 2) := dk_21 4 (dk_at dksX2_due_2 7 rfl rfl)
theorem dX2_due_56 : decode cX2_due 56 = .ok (.iload_n 2, 1) := dk_28 (dk_at dksX2_due_2 9 rfl rfl)
theorem dX2_due_57 : decode cX2_due 57 = .ok (.if_icmp .ge 6, 3) := dk_162 0 6 (dk_at dksX2_due_2 10 rfl rfl)
theorem dX2_due_60 : decode cX2_due 60 = .ok (.iload 4, 2) := dk_21 4 (dk_at dksX2_due_2 13 rfl rfl)
theorem dX2_due_62 : decode cX2_due 62 = .ok (.istore_n 2, 1) := dk_61 (dk_at dksX2_due_2 15 rfl rfl)
theorem dX2_due_63 : decode cX2_due 63 = .ok (.iinc 3 1, 3) := dk_132 3 1 (dk_at dksX2_due_2 16 rfl rfl)
theorem dX2_due_66 : decode cX2_due 66 = .ok (.goto (-51), 3) := dk_167 255 205 (dk_at dksX2_due_2 19 rfl rfl)
theorem dX2_due_69 : decode cX2_due 69 = .ok (.iload_n 2, 1) := dk_28 (dk_at dksX2_due_2 22 rfl rfl)
theorem dX2_due_70 : decode cX2_due 70 = .ok (.ireturn, 1) := dk_172 (dk_at dksX2_due_2 23 rfl rfl)
theorem hd_X2_dueAt : (yX2_dueAt.cls ≠ "java/lang/invoke/MethodHandle" ∧ yX2_dueAt.cls ≠ "java/lang/invoke/VarHandle" ∧ (parseMethodDescriptor yX2_dueAt.desc).map (fun d => d.parameters.length) = some 2) := ⟨by decide +kernel, by decide +kernel, by decide +kernel⟩
def t_X2_due (p1 : Int32) (w0 : TS) : Option (Int32 × TS) := gB2 (t_X2_isInstance p1 w0) fun x2 w1 => if x2 = 0 then some ((-1), w1) else gL3 (fun k8 (x5 : Int32) (x6 : Int32) (x7 : Int32) (w4 : TS) => gB2 (t_X2_versionOf x5 w4) fun x10 w9 => gB1 (tLd w9 3 ((nI 4) * x10)) fun x11 => if x11 ≤ x7 then some (x6, w9) else gB2 (t_X2_dueAt x5 x7 w9) fun x14 w13 => gB1 (tLd w13 5 (nI 0)) fun x15 => gBd (fun (x18 : Int32) (x19 : Int32) (x20 : Int32) (w17 : TS) => gBd (x20 + (nI 1)) fun x21 => k8 x18 x19 x21 w17) fun k16 => if x14 ≤ x15 then k16 x5 x6 x7 w13 else gBd (fun (x25 : Int32) (x26 : Int32) (x27 : Int32) (w24 : TS) => k16 x25 x27 x26 w24) fun k23 => if x6 < 0 then k23 x5 x7 x14 w13 else if x6 ≤ x14 then k16 x5 x6 x7 w13 else k23 x5 x7 x14 w13) 20000 p1 (-5) (nI 0) w1
set_option maxHeartbeats 4000000 in
set_option maxRecDepth 100000 in
theorem kt_X2_due {D : va_G} {dA : Nat → ClassId} {A : Nat → Prop} {K : Nat → Nat} {l : Launch} {wb : gw} {ad : Nat → Nat} (hinj : tInj ad) {h : Nat} (hh : 5 ≤ h) {p1 : Int32} {w0 ww : TS} {rr : Int32} (hf : t_X2_due p1 w0 = some (rr, ww)) : gMet D dA A K l yX2_due (ws_ yX2_due cX2_due 5 (some .int)) h [(ga (some (ad 0))), (gi p1)] (some (gi rr)) (twOf wb ad w0) (twOf wb ad ww) := by
  refine j_start (own := RX2) (by decide +kernel) rfl (Nat.le_of_ble_eq_true rfl) ?_
  intro p e R s m args below meth c C hr hin hw
  unfold t_X2_due at hf
  show gJ D dA A K p l e R s m args below meth c (gEnd D dA A K below args s (twOf wb ad w0) (some (gi rr)) (twOf wb ad ww)) 5 0 [(0, (ga (some (ad 0)))), (1, (gi p1))] [] (twOf wb ad w0)
  refine j_aload_n C dX2_due_0 rfl ?_
  refine j_iload_n C dX2_due_1 rfl ?_
  replace hf := gB2_e hf
  obtain ⟨x2, w1, ew1, hf⟩ := hf
  refine j_callV (As := [(gi p1)]) (rest := []) (v := (some (gi x2))) C (by omega) (kt_X2_isInstance hinj (by omega) ew1) (tw_cls hinj) rfl q1900 q1902 qs81 q93 q1903 ⟨rfl, hd_X2_isInstance⟩ (by decide) rfl (Nat.le_of_ble_eq_true rfl) dX2_due_2 ?_
  refine j_if_ne (tgt := 10) C dX2_due_5 (by decide) (fun c3 => ?_) (fun c3 => ?_)
  · replace hf := gIf_f hf c3
    refine j_bipush (v := (-5)) C dX2_due_10 (by decide) ?_
    refine j_istore_n (lv' := [(2, (gi (-5))), (0, (ga (some (ad 0)))), (1, (gi p1))]) C dX2_due_12 (by decide) rfl ?_
    refine j_iconst (v := (nI 0)) C dX2_due_13 (by decide) ?_
    refine j_istore_n (lv' := [(3, (gi (nI 0))), (2, (gi (-5))), (0, (ga (some (ad 0)))), (1, (gi p1))]) C dX2_due_14 (by decide) rfl ?_
    refine j_sub (lv' := [(0, (ga (some (ad 0)))), (1, (gi p1)), (2, (gi (-5))), (3, (gi (nI 0)))]) (gL_cons rfl (gL_cons rfl (gL_cons rfl (gL_cons rfl (gL_nil))))) ?_
    refine gL3_e (fun (x5 : Int32) (x6 : Int32) (x7 : Int32) (w4 : TS) => gJ D dA A K p l e R s m args below meth c (gEnd D dA A K below args s (twOf wb ad w0) (some (gi rr)) (twOf wb ad ww)) 5 15 [(0, (ga (some (ad 0)))), (1, (gi x5)), (2, (gi x6)), (3, (gi x7))] [] (twOf wb ad w4)) ?_ _ _ _ _ _ hf
    intro k8 jk8 x5 x6 x7 w4 hf
    refine j_iload_n C dX2_due_15 rfl ?_
    refine j_aload_n C dX2_due_16 rfl ?_
    refine j_get (v := (ga (some (ad 3)))) C fl_X2_16_2 dX2_due_17 (tw_F hinj rfl) ?_
    refine j_iconst (v := (nI 4)) C dX2_due_20 (by decide) ?_
    refine j_aload_n C dX2_due_21 rfl ?_
    refine j_iload_n C dX2_due_22 rfl ?_
    replace hf := gB2_e hf
    obtain ⟨x10, w9, ew9, hf⟩ := hf
    refine j_callV (As := [(gi x5)]) (rest := [(gi (nI 4)), (ga (some (ad 3))), (gi x7)]) (v := (some (gi x10))) C (by omega) (kt_X2_versionOf hinj (by omega) ew9) (tw_cls hinj) rfl q1816 q1818 qs61 q93 q1819 ⟨rfl, hd_X2_versionOf⟩ (by decide) rfl (Nat.le_of_ble_eq_true rfl) dX2_due_23 ?_
    refine j_imul C dX2_due_26 ?_
    replace hf := gB1_e hf
    obtain ⟨x11, ex11, hf⟩ := hf
    refine j_iald C (tw_ld hinj ex11) dX2_due_27 ?_
    refine j_icmp_ge (tgt := 69) C dX2_due_28 (by decide) (fun c12 => ?_) (fun c12 => ?_)
    · replace hf := gIf_t hf c12
      refine j_iload_n C dX2_due_69 rfl ?_
      obtain ⟨rfl, rfl⟩ := gSome hf
      exact j_iret C hr hw dX2_due_70
    · replace hf := gIf_f hf c12
      refine j_aload_n C dX2_due_31 rfl ?_
      refine j_iload_n C dX2_due_32 rfl ?_
      refine j_iload_n C dX2_due_33 rfl ?_
      replace hf := gB2_e hf
      obtain ⟨x14, w13, ew13, hf⟩ := hf
      refine j_callV (As := [(gi x5), (gi x7)]) (rest := []) (v := (some (gi x14))) C (by omega) (kt_X2_dueAt hinj (by omega) ew13) (tw_cls hinj) rfl q1946 q1948 qs85 q93 q1949 ⟨rfl, hd_X2_dueAt⟩ (by decide) rfl (Nat.le_of_ble_eq_true rfl) dX2_due_34 ?_
      refine j_istore (lv' := [(4, (gi x14)), (0, (ga (some (ad 0)))), (1, (gi x5)), (2, (gi x6)), (3, (gi x7))]) C dX2_due_37 (by decide) rfl ?_
      refine j_iload C dX2_due_39 rfl ?_
      refine j_aload_n C dX2_due_41 rfl ?_
      refine j_get (v := (ga (some (ad 5)))) C fl_X2_22_2 dX2_due_42 (tw_F hinj rfl) ?_
      refine j_iconst (v := (nI 0)) C dX2_due_45 (by decide) ?_
      replace hf := gB1_e hf
      obtain ⟨x15, ex15, hf⟩ := hf
      refine j_iald C (tw_ld hinj ex15) dX2_due_46 ?_
      replace hf := gBd_x hf
      obtain ⟨k16, ek16, hf⟩ := hf
      have jk16 : ∀ (x18 : Int32) (x19 : Int32) (x20 : Int32) (w17 : TS), k16 x18 x19 x20 w17 = some (rr, ww) → gJ D dA A K p l e R s m args below meth c (gEnd D dA A K below args s (twOf wb ad w0) (some (gi rr)) (twOf wb ad ww)) 5 63 [(0, (ga (some (ad 0)))), (1, (gi x18)), (2, (gi x19)), (3, (gi x20))] [] (twOf wb ad w17) := by
        intro x18 x19 x20 w17 hf
        rw [ek16] at hf
        dsimp only at hf
        replace hf := gBd_x hf
        obtain ⟨x21, ex21, hf⟩ := hf
        refine j_iinc (v := x21) (lv' := [(3, (gi x21)), (0, (ga (some (ad 0)))), (1, (gi x18)), (2, (gi x19))]) C dX2_due_63 rfl (by rw [ex21]; rfl) (by decide) rfl ?_
        refine j_goto (tgt := 15) C dX2_due_66 (by decide) ?_
        refine j_sub (lv' := [(0, (ga (some (ad 0)))), (1, (gi x18)), (2, (gi x19)), (3, (gi x21))]) (gL_cons rfl (gL_cons rfl (gL_cons rfl (gL_cons rfl (gL_nil))))) ?_
        exact jk8 _ _ _ _ hf
      clear ek16
      refine j_icmp_le (tgt := 63) C dX2_due_47 (by decide) (fun c22 => ?_) (fun c22 => ?_)
      · replace hf := gIf_t hf c22
        refine j_sub (lv' := [(0, (ga (some (ad 0)))), (1, (gi x5)), (2, (gi x6)), (3, (gi x7))]) (gL_cons rfl (gL_cons rfl (gL_cons rfl (gL_cons rfl (gL_nil))))) ?_
        exact jk16 _ _ _ _ hf
      · replace hf := gIf_f hf c22
        refine j_iload_n C dX2_due_50 rfl ?_
        replace hf := gBd_x hf
        obtain ⟨k23, ek23, hf⟩ := hf
        have jk23 : ∀ (x25 : Int32) (x26 : Int32) (x27 : Int32) (w24 : TS), k23 x25 x26 x27 w24 = some (rr, ww) → gJ D dA A K p l e R s m args below meth c (gEnd D dA A K below args s (twOf wb ad w0) (some (gi rr)) (twOf wb ad ww)) 5 60 [(0, (ga (some (ad 0)))), (1, (gi x25)), (3, (gi x26)), (4, (gi x27))] [] (twOf wb ad w24) := by
          intro x25 x26 x27 w24 hf
          rw [ek23] at hf
          dsimp only at hf
          refine j_iload C dX2_due_60 rfl ?_
          refine j_istore_n (lv' := [(2, (gi x27)), (0, (ga (some (ad 0)))), (1, (gi x25)), (3, (gi x26)), (4, (gi x27))]) C dX2_due_62 (by decide) rfl ?_
          refine j_sub (lv' := [(0, (ga (some (ad 0)))), (1, (gi x25)), (2, (gi x27)), (3, (gi x26))]) (gL_cons rfl (gL_cons rfl (gL_cons rfl (gL_cons rfl (gL_nil))))) ?_
          exact jk16 _ _ _ _ hf
        clear ek23
        refine j_if_lt (tgt := 60) C dX2_due_51 (by decide) (fun c28 => ?_) (fun c28 => ?_)
        · replace hf := gIf_t hf c28
          refine j_sub (lv' := [(0, (ga (some (ad 0)))), (1, (gi x5)), (3, (gi x7)), (4, (gi x14))]) (gL_cons rfl (gL_cons rfl (gL_cons rfl (gL_cons rfl (gL_nil))))) ?_
          exact jk23 _ _ _ _ hf
        · replace hf := gIf_f hf c28
          refine j_iload C dX2_due_54 rfl ?_
          refine j_iload_n C dX2_due_56 rfl ?_
          refine j_icmp_ge (tgt := 63) C dX2_due_57 (by decide) (fun c29 => ?_) (fun c29 => ?_)
          · replace hf := gIf_t hf c29
            refine j_sub (lv' := [(0, (ga (some (ad 0)))), (1, (gi x5)), (2, (gi x6)), (3, (gi x7))]) (gL_cons rfl (gL_cons rfl (gL_cons rfl (gL_cons rfl (gL_nil))))) ?_
            exact jk16 _ _ _ _ hf
          · replace hf := gIf_f hf c29
            refine j_sub (lv' := [(0, (ga (some (ad 0)))), (1, (gi x5)), (3, (gi x7)), (4, (gi x14))]) (gL_cons rfl (gL_cons rfl (gL_cons rfl (gL_cons rfl (gL_nil))))) ?_
            exact jk23 _ _ _ _ hf
  · replace hf := gIf_t hf c3
    refine j_iconst (v := (-1)) C dX2_due_8 (by decide) ?_
    obtain ⟨rfl, rfl⟩ := gSome hf
    exact j_iret C hr hw dX2_due_9
def dkwX2_compensates_7 : List UInt8 := [42, 27, 28, 182, 0, 226, 167, 255, 84]
abbrev dktX2_compensates_7 : List UInt8 := dkwX2_compensates_7 ++ []
def dkwX2_compensates_6 : List UInt8 := [28, 16, 8, 184, 0, 169, 46, 6, 160, 0, 16, 42, 27, 28, 16, 7, 16, 8, 182, 0, 229, 167, 255, 93]
abbrev dktX2_compensates_6 : List UInt8 := dkwX2_compensates_6 ++ dktX2_compensates_7
def dkwX2_compensates_5 : List UInt8 := [167, 255, 138, 42, 180, 0, 22, 27, 28, 16, 8, 184, 0, 169, 92, 46, 4, 96, 79, 42, 180, 0, 22, 27]
abbrev dktX2_compensates_5 : List UInt8 := dkwX2_compensates_5 ++ dktX2_compensates_6
def dkwX2_compensates_4 : List UInt8 := [184, 0, 169, 46, 7, 182, 0, 171, 182, 0, 181, 154, 0, 16, 42, 27, 28, 16, 6, 16, 7, 182, 0, 229]
abbrev dktX2_compensates_4 : List UInt8 := dkwX2_compensates_4 ++ dktX2_compensates_5
def dkwX2_compensates_3 : List UInt8 := [46, 42, 180, 0, 22, 3, 46, 164, 0, 5, 3, 172, 42, 42, 27, 42, 180, 0, 22, 27, 28, 16, 7]
abbrev dktX2_compensates_3 : List UInt8 := dkwX2_compensates_3 ++ dktX2_compensates_4
def dkwX2_compensates_2 : List UInt8 := [16, 8, 184, 0, 169, 3, 79, 42, 27, 28, 182, 0, 226, 42, 180, 0, 22, 27, 28, 16, 9, 184, 0, 169]
abbrev dktX2_compensates_2 : List UInt8 := dkwX2_compensates_2 ++ dktX2_compensates_3
def dkwX2_compensates_1 : List UInt8 := [156, 0, 5, 4, 172, 42, 180, 0, 22, 27, 28, 16, 7, 184, 0, 169, 29, 79, 42, 180, 0, 22, 27, 28]
abbrev dktX2_compensates_1 : List UInt8 := dkwX2_compensates_1 ++ dktX2_compensates_2
def dkwX2_compensates_0 : List UInt8 := [42, 180, 0, 22, 27, 28, 16, 7, 184, 0, 169, 46, 156, 0, 48, 42, 27, 28, 182, 0, 223, 62, 29]
abbrev dktX2_compensates_0 : List UInt8 := dkwX2_compensates_0 ++ dktX2_compensates_1
theorem dksX2_compensates_0 : cX2_compensates.data.toList.drop 0 = dktX2_compensates_0 := by decide +kernel
theorem dksX2_compensates_1 : cX2_compensates.data.toList.drop 23 = dktX2_compensates_1 := dk_seg dksX2_compensates_0 23 rfl rfl
theorem dksX2_compensates_2 : cX2_compensates.data.toList.drop 47 = dktX2_compensates_2 := dk_seg dksX2_compensates_1 24 rfl rfl
theorem dksX2_compensates_3 : cX2_compensates.data.toList.drop 71 = dktX2_compensates_3 := dk_seg dksX2_compensates_2 24 rfl rfl
theorem dksX2_compensates_4 : cX2_compensates.data.toList.drop 94 = dktX2_compensates_4 := dk_seg dksX2_compensates_3 23 rfl rfl
theorem dksX2_compensates_5 : cX2_compensates.data.toList.drop 118 = dktX2_compensates_5 := dk_seg dksX2_compensates_4 24 rfl rfl
theorem dksX2_compensates_6 : cX2_compensates.data.toList.drop 142 = dktX2_compensates_6 := dk_seg dksX2_compensates_5 24 rfl rfl
theorem dksX2_compensates_7 : cX2_compensates.data.toList.drop 166 = dktX2_compensates_7 := dk_seg dksX2_compensates_6 24 rfl rfl
theorem dX2_compensates_0 : decode cX2_compensates 0 = .ok (.aload_n 0, 1) := dk_42 (dk_at dksX2_compensates_0 0 rfl rfl)
theorem dX2_compensates_1 : decode cX2_compensates 1 = .ok (.getfield 22, 3) := dk_180 0 22 (dk_at dksX2_compensates_0 1 rfl rfl)
theorem dX2_compensates_4 : decode cX2_compensates 4 = .ok (.iload_n 1, 1) := dk_27 (dk_at dksX2_compensates_0 4 rfl rfl)
theorem dX2_compensates_5 : decode cX2_compensates 5 = .ok (.iload_n 2, 1) := dk_28 (dk_at dksX2_compensates_0 5 rfl rfl)
theorem dX2_compensates_6 : decode cX2_compensates 6 = .ok (.bipush 7, 2) := dk_16 7 (dk_at dksX2_compensates_0 6 rfl rfl)
theorem dX2_compensates_8 : decode cX2_compensates 8 = .ok (.invokestatic 169, 3) := dk_184 0 169 (dk_at dksX2_compensates_0 8 rfl rfl)
theorem dX2_compensates_11 : decode cX2_compensates 11 = .ok (.iaload, 1) := dk_46 (dk_at dksX2_compensates_0 11 rfl rfl)
theorem dX2_compensates_12 : decode cX2_compensates 12 = .ok (.ifCond .ge 48, 3) := dk_156 0 48 (dk_at dksX2_compensates_0 12 rfl rfl)
theorem dX2_compensates_15 : decode cX2_compensates 15 = .ok (.aload_n 0, 1) := dk_42 (dk_at dksX2_compensates_0 15 rfl rfl)
theorem dX2_compensates_16 : decode cX2_compensates 16 = .ok (.iload_n 1, 1) := dk_27 (dk_at dksX2_compensates_0 16 rfl rfl)
theorem dX2_compensates_17 : decode cX2_compensates 17 = .ok (.iload_n 2, 1) := dk_28 (dk_at dksX2_compensates_0 17 rfl rfl)
theorem dX2_compensates_18 : decode cX2_compensates 18 = .ok (.invokevirtual 223, 3) := dk_182 0 223 (dk_at dksX2_compensates_0 18 rfl rfl)
theorem dX2_compensates_21 : decode cX2_compensates 21 = .ok (.istore_n 3, 1) := dk_62 (dk_at dksX2_compensates_0 21 rfl rfl)
theorem dX2_compensates_22 : decode cX2_compensates 22 = .ok (.iload_n 3, 1) := dk_29 (dk_at dksX2_compensates_0 22 rfl rfl)
theorem dX2_compensates_23 : decode cX2_compensates 23 = .ok (.ifCond .ge 5, 3) := dk_156 0 5 (dk_at dksX2_compensates_1 0 rfl rfl)
theorem dX2_compensates_26 : decode cX2_compensates 26 = .ok (.iconst 1, 1) := dk_4 (dk_at dksX2_compensates_1 3 rfl rfl)
theorem dX2_compensates_27 : decode cX2_compensates 27 = .ok (.ireturn, 1) := dk_172 (dk_at dksX2_compensates_1 4 rfl rfl)
theorem dX2_compensates_28 : decode cX2_compensates 28 = .ok (.aload_n 0, 1) := dk_42 (dk_at dksX2_compensates_1 5 rfl rfl)
theorem dX2_compensates_29 : decode cX2_compensates 29 = .ok (.getfield 22, 3) := dk_180 0 22 (dk_at dksX2_compensates_1 6 rfl rfl)
theorem dX2_compensates_32 : decode cX2_compensates 32 = .ok (.iload_n 1, 1) := dk_27 (dk_at dksX2_compensates_1 9 rfl rfl)
theorem dX2_compensates_33 : decode cX2_compensates 33 = .ok (.iload_n 2, 1) := dk_28 (dk_at dksX2_compensates_1 10 rfl rfl)
theorem dX2_compensates_34 : decode cX2_compensates 34 = .ok (.bipush 7, 2) := dk_16 7 (dk_at dksX2_compensates_1 11 rfl rfl)
theorem dX2_compensates_36 : decode cX2_compensates 36 = .ok (.invokestatic 169, 3) := dk_184 0 169 (dk_at dksX2_compensates_1 13 rfl rfl)
theorem dX2_compensates_39 : decode cX2_compensates 39 = .ok (.iload_n 3, 1) := dk_29 (dk_at dksX2_compensates_1 16 rfl rfl)
theorem dX2_compensates_40 : decode cX2_compensates 40 = .ok (.iastore, 1) := dk_79 (dk_at dksX2_compensates_1 17 rfl rfl)
theorem dX2_compensates_41 : decode cX2_compensates 41 = .ok (.aload_n 0, 1) := dk_42 (dk_at dksX2_compensates_1 18 rfl rfl)
theorem dX2_compensates_42 : decode cX2_compensates 42 = .ok (.getfield 22, 3) := dk_180 0 22 (dk_at dksX2_compensates_1 19 rfl rfl)
theorem dX2_compensates_45 : decode cX2_compensates 45 = .ok (.iload_n 1, 1) := dk_27 (dk_at dksX2_compensates_1 22 rfl rfl)
theorem dX2_compensates_46 : decode cX2_compensates 46 = .ok (.iload_n 2, 1) := dk_28 (dk_at dksX2_compensates_1 23 rfl rfl)
theorem dX2_compensates_47 : decode cX2_compensates 47 = .ok (.bipush 8, 2) := dk_16 8 (dk_at dksX2_compensates_2 0 rfl rfl)
theorem dX2_compensates_49 : decode cX2_compensates 49 = .ok (.invokestatic 169, 3) := dk_184 0 169 (dk_at dksX2_compensates_2 2 rfl rfl)
theorem dX2_compensates_52 : decode cX2_compensates 52 = .ok (.iconst 0, 1) := dk_3 (dk_at dksX2_compensates_2 5 rfl rfl)
theorem dX2_compensates_53 : decode cX2_compensates 53 = .ok (.iastore, 1) := dk_79 (dk_at dksX2_compensates_2 6 rfl rfl)
theorem dX2_compensates_54 : decode cX2_compensates 54 = .ok (.aload_n 0, 1) := dk_42 (dk_at dksX2_compensates_2 7 rfl rfl)
theorem dX2_compensates_55 : decode cX2_compensates 55 = .ok (.iload_n 1, 1) := dk_27 (dk_at dksX2_compensates_2 8 rfl rfl)
theorem dX2_compensates_56 : decode cX2_compensates 56 = .ok (.iload_n 2, 1) := dk_28 (dk_at dksX2_compensates_2 9 rfl rfl)
theorem dX2_compensates_57 : decode cX2_compensates 57 = .ok (.invokevirtual 226, 3) := dk_182 0 226 (dk_at dksX2_compensates_2 10 rfl rfl)
theorem dX2_compensates_60 : decode cX2_compensates 60 = .ok (.aload_n 0, 1) := dk_42 (dk_at dksX2_compensates_2 13 rfl rfl)
theorem dX2_compensates_61 : decode cX2_compensates 61 = .ok (.getfield 22, 3) := dk_180 0 22 (dk_at dksX2_compensates_2 14 rfl rfl)
theorem dX2_compensates_64 : decode cX2_compensates 64 = .ok (.iload_n 1, 1) := dk_27 (dk_at dksX2_compensates_2 17 rfl rfl)
theorem dX2_compensates_65 : decode cX2_compensates 65 = .ok (.iload_n 2, 1) := dk_28 (dk_at dksX2_compensates_2 18 rfl rfl)
theorem dX2_compensates_66 : decode cX2_compensates 66 = .ok (.bipush 9, 2) := dk_16 9 (dk_at dksX2_compensates_2 19 rfl rfl)
theorem dX2_compensates_68 : decode cX2_compensates 68 = .ok (.invokestatic 169, 3) := dk_184 0 169 (dk_at dksX2_compensates_2 21 rfl rfl)
theorem dX2_compensates_71 : decode cX2_compensates 71 = .ok (.iaload, 1) := dk_46 (dk_at dksX2_compensates_3 0 rfl rfl)
theorem dX2_compensates_72 : decode cX2_compensates 72 = .ok (.aload_n 0, 1) := dk_42 (dk_at dksX2_compensates_3 1 rfl rfl)
theorem dX2_compensates_73 : decode cX2_compensates 73 = .ok (.getfield 22, 3) := dk_180 0 22 (dk_at dksX2_compensates_3 2 rfl rfl)
theorem dX2_compensates_76 : decode cX2_compensates 76 = .ok (.iconst 0, 1) := dk_3 (dk_at dksX2_compensates_3 5 rfl rfl)
theorem dX2_compensates_77 : decode cX2_compensates 77 = .ok (.iaload, 1) := dk_46 (dk_at dksX2_compensates_3 6 rfl rfl)
theorem dX2_compensates_78 : decode cX2_compensates 78 = .ok (.if_icmp .le 5, 3) := dk_164 0 5 (dk_at dksX2_compensates_3 7 rfl rfl)
theorem dX2_compensates_81 : decode cX2_compensates 81 = .ok (.iconst 0, 1) := dk_3 (dk_at dksX2_compensates_3 10 rfl rfl)
theorem dX2_compensates_82 : decode cX2_compensates 82 = .ok (.ireturn, 1) := dk_172 (dk_at dksX2_compensates_3 11 rfl rfl)
theorem dX2_compensates_83 : decode cX2_compensates 83 = .ok (.aload_n 0, 1) := dk_42 (dk_at dksX2_compensates_3 12 rfl rfl)
theorem dX2_compensates_84 : decode cX2_compensates 84 = .ok (.aload_n 0, 1) := dk_42 (dk_at dksX2_compensates_3 13 rfl rfl)
theorem dX2_compensates_85 : decode cX2_compensates 85 = .ok (.iload_n 1, 1) := dk_27 (dk_at dksX2_compensates_3 14 rfl rfl)
theorem dX2_compensates_86 : decode cX2_compensates 86 = .ok (.aload_n 0, 1) := dk_42 (dk_at dksX2_compensates_3 15 rfl rfl)
theorem dX2_compensates_87 : decode cX2_compensates 87 = .ok (.getfield 22, 3) := dk_180 0 22 (dk_at dksX2_compensates_3 16 rfl rfl)
theorem dX2_compensates_90 : decode cX2_compensates 90 = .ok (.iload_n 1, 1) := dk_27 (dk_at dksX2_compensates_3 19 rfl rfl)
theorem dX2_compensates_91 : decode cX2_compensates 91 = .ok (.iload_n 2, 1) := dk_28 (dk_at dksX2_compensates_3 20 rfl rfl)
theorem dX2_compensates_92 : decode cX2_compensates 92 = .ok (.bipush 7, 2) := dk_16 7 (dk_at dksX2_compensates_3 21 rfl rfl)
theorem dX2_compensates_94 : decode cX2_compensates 94 = .ok (.invokestatic 169, 3) := dk_184 0 169 (dk_at dksX2_compensates_4 0 rfl rfl)
theorem dX2_compensates_97 : decode cX2_compensates 97 = .ok (.iaload, 1) := dk_46 (dk_at dksX2_compensates_4 3 rfl rfl)
theorem dX2_compensates_98 : decode cX2_compensates 98 = .ok (.iconst 4, 1) := dk_7 (dk_at dksX2_compensates_4 4 rfl rfl)
theorem dX2_compensates_99 : decode cX2_compensates 99 = .ok (.invokevirtual 171, 3) := dk_182 0 171 (dk_at dksX2_compensates_4 5 rfl rfl)
theorem dX2_compensates_102 : decode cX2_compensates 102 = .ok (.invokevirtual 181, 3) := dk_182 0 181 (dk_at dksX2_compensates_4 8 rfl rfl)
theorem dX2_compensates_105 : decode cX2_compensates 105 = .ok (.ifCond .ne 16, 3) := dk_154 0 16 (dk_at dksX2_compensates_4 11 rfl rfl)
theorem dX2_compensates_108 : decode cX2_compensates 108 = .ok (.aload_n 0, 1) := dk_42 (dk_at dksX2_compensates_4 14 rfl rfl)
theorem dX2_compensates_109 : decode cX2_compensates 109 = .ok (.iload_n 1, 1) := dk_27 (dk_at dksX2_compensates_4 15 rfl rfl)
theorem dX2_compensates_110 : decode cX2_compensates 110 = .ok (.iload_n 2, 1) := dk_28 (dk_at dksX2_compensates_4 16 rfl rfl)
theorem dX2_compensates_111 : decode cX2_compensates 111 = .ok (.bipush 6, 2) := dk_16 6 (dk_at dksX2_compensates_4 17 rfl rfl)
theorem dX2_compensates_113 : decode cX2_compensates 113 = .ok (.bipush 7, 2) := dk_16 7 (dk_at dksX2_compensates_4 19 rfl rfl)
theorem dX2_compensates_115 : decode cX2_compensates 115 = .ok (.invokevirtual 229, 3) := dk_182 0 229 (dk_at dksX2_compensates_4 21 rfl rfl)
theorem dX2_compensates_118 : decode cX2_compensates 118 = .ok (.goto (-118), 3) := dk_167 255 138 (dk_at dksX2_compensates_5 0 rfl rfl)
theorem dX2_compensates_121 : decode cX2_compensates 121 = .ok (.aload_n 0, 1) := dk_42 (dk_at dksX2_compensates_5 3 rfl rfl)
theorem dX2_compensates_122 : decode cX2_compensates 122 = .ok (.getfield 22, 3) := dk_180 0 22 (dk_at dksX2_compensates_5 4 rfl rfl)
theorem dX2_compensates_125 : decode cX2_compensates 125 = .ok (.iload_n 1, 1) := dk_27 (dk_at dksX2_compensates_5 7 rfl rfl)
theorem dX2_compensates_126 : decode cX2_compensates 126 = .ok (.iload_n 2, 1) := dk_28 (dk_at dksX2_compensates_5 8 rfl rfl)
theorem dX2_compensates_127 : decode cX2_compensates 127 = .ok (.bipush 8, 2) := dk_16 8 (dk_at dksX2_compensates_5 9 rfl rfl)
theorem dX2_compensates_129 : decode cX2_compensates 129 = .ok (.invokestatic 169, 3) := dk_184 0 169 (dk_at dksX2_compensates_5 11 rfl rfl)
theorem dX2_compensates_132 : decode cX2_compensates 132 = .ok (.dup2, 1) := dk_92 (dk_at dksX2_compensates_5 14 rfl rfl)
theorem dX2_compensates_133 : decode cX2_compensates 133 = .ok (.iaload, 1) := dk_46 (dk_at dksX2_compensates_5 15 rfl rfl)
theorem dX2_compensates_134 : decode cX2_compensates 134 = .ok (.iconst 1, 1) := dk_4 (dk_at dksX2_compensates_5 16 rfl rfl)
theorem dX2_compensates_135 : decode cX2_compensates 135 = .ok (.iadd, 1) := dk_96 (dk_at dksX2_compensates_5 17 rfl rfl)
theorem dX2_compensates_136 : decode cX2_compensates 136 = .ok (.iastore, 1) := dk_79 (dk_at dksX2_compensates_5 18 rfl rfl)
theorem dX2_compensates_137 : decode cX2_compensates 137 = .ok (.aload_n 0, 1) := dk_42 (dk_at dksX2_compensates_5 19 rfl rfl)
theorem dX2_compensates_138 : decode cX2_compensates 138 = .ok (.getfield 22, 3) := dk_180 0 22 (dk_at dksX2_compensates_5 20 rfl rfl)
theorem dX2_compensates_141 : decode cX2_compensates 141 = .ok (.iload_n 1, 1) := dk_27 (dk_at dksX2_compensates_5 23 rfl rfl)
theorem dX2_compensates_142 : decode cX2_compensates 142 = .ok (.iload_n 2, 1) := dk_28 (dk_at dksX2_compensates_6 0 rfl rfl)
theorem dX2_compensates_143 : decode cX2_compensates 143 = .ok (.bipush 8, 2) := dk_16 8 (dk_at dksX2_compensates_6 1 rfl rfl)
theorem dX2_compensates_145 : decode cX2_compensates 145 = .ok (.invokestatic 169, 3) := dk_184 0 169 (dk_at dksX2_compensates_6 3 rfl rfl)
theorem dX2_compensates_148 : decode cX2_compensates 148 = .ok (.iaload, 1) := dk_46 (dk_at dksX2_compensates_6 6 rfl rfl)
theorem dX2_compensates_149 : decode cX2_compensates 149 = .ok (.iconst 3, 1) := dk_6 (dk_at dksX2_compensates_6 7 rfl rfl)
theorem dX2_compensates_150 : decode cX2_compensates 150 = .ok (.if_icmp .ne 16, 3) := dk_160 0 16 (dk_at dksX2_compensates_6 8 rfl rfl)
theorem dX2_compensates_153 : decode cX2_compensates 153 = .ok (.aload_n 0, 1) := dk_42 (dk_at dksX2_compensates_6 11 rfl rfl)
theorem dX2_compensates_154 : decode cX2_compensates 154 = .ok (.iload_n 1, 1) := dk_27 (dk_at dksX2_compensates_6 12 rfl rfl)
theorem dX2_compensates_155 : decode cX2_compensates 155 = .ok (.iload_n 2, 1) := dk_28 (dk_at dksX2_compensates_6 13 rfl rfl)
theorem dX2_compensates_156 : decode cX2_compensates 156 = .ok (.bipush 7, 2) := dk_16 7 (dk_at dksX2_compensates_6 14 rfl rfl)
theorem dX2_compensates_158 : decode cX2_compensates 158 = .ok (.bipush 8, 2) := dk_16 8 (dk_at dksX2_compensates_6 16 rfl rfl)
theorem dX2_compensates_160 : decode cX2_compensates 160 = .ok (.invokevirtual 229, 3) := dk_182 0 229 (dk_at dksX2_compensates_6 18 rfl rfl)
theorem dX2_compensates_163 : decode cX2_compensates 163 = .ok (.goto (-163), 3) := dk_167 255 93 (dk_at dksX2_compensates_6 21 rfl rfl)
theorem dX2_compensates_166 : decode cX2_compensates 166 = .ok (.aload_n 0, 1) := dk_42 (dk_at dksX2_compensates_7 0 rfl rfl)
theorem dX2_compensates_167 : decode cX2_compensates 167 = .ok (.iload_n 1, 1) := dk_27 (dk_at dksX2_compensates_7 1 rfl rfl)
theorem dX2_compensates_168 : decode cX2_compensates 168 = .ok (.iload_n 2, 1) := dk_28 (dk_at dksX2_compensates_7 2 rfl rfl)
theorem dX2_compensates_169 : decode cX2_compensates 169 = .ok (.invokevirtual 226, 3) := dk_182 0 226 (dk_at dksX2_compensates_7 3 rfl rfl)
theorem dX2_compensates_172 : decode cX2_compensates 172 = .ok (.goto (-172), 3) := dk_167 255 84 (dk_at dksX2_compensates_7 6 rfl rfl)
theorem hd_X2_triesToCompensate : (yX2_triesToCompensate.cls ≠ "java/lang/invoke/MethodHandle" ∧ yX2_triesToCompensate.cls ≠ "java/lang/invoke/VarHandle" ∧ (parseMethodDescriptor yX2_triesToCompensate.desc).map (fun d => d.parameters.length) = some 2) := ⟨by decide +kernel, by decide +kernel, by decide +kernel⟩
theorem hd_X2_handles : (yX2_handles.cls ≠ "java/lang/invoke/MethodHandle" ∧ yX2_handles.cls ≠ "java/lang/invoke/VarHandle" ∧ (parseMethodDescriptor yX2_handles.desc).map (fun d => d.parameters.length) = some 4) := ⟨by decide +kernel, by decide +kernel, by decide +kernel⟩
theorem hd_X2_nextToCompensate : (yX2_nextToCompensate.cls ≠ "java/lang/invoke/MethodHandle" ∧ yX2_nextToCompensate.cls ≠ "java/lang/invoke/VarHandle" ∧ (parseMethodDescriptor yX2_nextToCompensate.desc).map (fun d => d.parameters.length) = some 2) := ⟨by decide +kernel, by decide +kernel, by decide +kernel⟩
def t_X2_compensates (p1 : Int32) (p2 : Int32) (w0 : TS) : Option (Int32 × TS) := gB2 (t_X2_at p1 p2 (nI 7) w0) fun x2 w1 => gB1 (tLd w1 5 x2) fun x3 => gBd (fun (x6 : Int32) (x7 : Int32) (w5 : TS) => gB2 (t_X2_at x6 x7 (nI 9) w5) fun x9 w8 => gB1 (tLd w8 5 x9) fun x10 => gB1 (tLd w8 5 (nI 0)) fun x11 => if x10 ≤ x11 then gB2 (t_X2_at x6 x7 (nI 7) w8) fun x14 w13 => gB1 (tLd w13 5 x14) fun x15 => gB2 (t_X2_nodePart x6 x15 (nI 4) w13) fun x17 w16 => gB2 (t_X2_fails x17 w16) fun x19 w18 => if x19 = 0 then gB2 (t_X2_handles x6 x7 (nI 6) (nI 7) w18) fun _ w123 => gL2 (fun k127 (x125 : Int32) (x126 : Int32) (w124 : TS) => gB2 (t_X2_at x125 x126 (nI 7) w124) fun x129 w128 => gB1 (tLd w128 5 x129) fun x130 => gBd (fun (x133 : Int32) (x134 : Int32) (w132 : TS) => gB2 (t_X2_at x133 x134 (nI 9) w132) fun x136 w135 => gB1 (tLd w135 5 x136) fun x137 => gB1 (tLd w135 5 (nI 0)) fun x138 => if x137 ≤ x138 then gB2 (t_X2_at x133 x134 (nI 7) w135) fun x141 w140 => gB1 (tLd w140 5 x141) fun x142 => gB2 (t_X2_nodePart x133 x142 (nI 4) w140) fun x144 w143 => gB2 (t_X2_fails x144 w143) fun x146 w145 => if x146 = 0 then gB2 (t_X2_handles x133 x134 (nI 6) (nI 7) w145) fun _ w158 => k127 x133 x134 w158 else gB2 (t_X2_at x133 x134 (nI 8) w145) fun x149 w148 => gB1 (tLd w148 5 x149) fun x150 => gB1 (tSt w148 5 x149 (x150 + (nI 1))) fun w151 => gB2 (t_X2_at x133 x134 (nI 8) w151) fun x153 w152 => gB1 (tLd w152 5 x153) fun x154 => if x154 = (nI 3) then gB2 (t_X2_handles x133 x134 (nI 7) (nI 8) w152) fun _ w157 => k127 x133 x134 w157 else gB2 (t_X2_triesToCompensate x133 x134 w152) fun _ w156 => k127 x133 x134 w156 else some ((nI 0), w135)) fun k131 => if 0 ≤ x130 then k131 x125 x126 w128 else gB2 (t_X2_nextToCompensate x125 x126 w128) fun x161 w160 => if 0 ≤ x161 then gB2 (t_X2_at x125 x126 (nI 7) w160) fun x164 w163 => gB1 (tSt w163 5 x164 x161) fun w165 => gB2 (t_X2_at x125 x126 (nI 8) w165) fun x167 w166 => gB1 (tSt w166 5 x167 (nI 0)) fun w168 => gB2 (t_X2_triesToCompensate x125 x126 w168) fun _ w169 => k131 x125 x126 w169 else some ((nI 1), w160)) 20000 x6 x7 w123 else gB2 (t_X2_at x6 x7 (nI 8) w18) fun x22 w21 => gB1 (tLd w21 5 x22) fun x23 => gB1 (tSt w21 5 x22 (x23 + (nI 1))) fun w24 => gB2 (t_X2_at x6 x7 (nI 8) w24) fun x26 w25 => gB1 (tLd w25 5 x26) fun x27 => if x27 = (nI 3) then gB2 (t_X2_handles x6 x7 (nI 7) (nI 8) w25) fun _ w76 => gL2 (fun k80 (x78 : Int32) (x79 : Int32) (w77 : TS) => gB2 (t_X2_at x78 x79 (nI 7) w77) fun x82 w81 => gB1 (tLd w81 5 x82) fun x83 => gBd (fun (x86 : Int32) (x87 : Int32) (w85 : TS) => gB2 (t_X2_at x86 x87 (nI 9) w85) fun x89 w88 => gB1 (tLd w88 5 x89) fun x90 => gB1 (tLd w88 5 (nI 0)) fun x91 => if x90 ≤ x91 then gB2 (t_X2_at x86 x87 (nI 7) w88) fun x94 w93 => gB1 (tLd w93 5 x94) fun x95 => gB2 (t_X2_nodePart x86 x95 (nI 4) w93) fun x97 w96 => gB2 (t_X2_fails x97 w96) fun x99 w98 => if x99 = 0 then gB2 (t_X2_handles x86 x87 (nI 6) (nI 7) w98) fun _ w111 => k80 x86 x87 w111 else gB2 (t_X2_at x86 x87 (nI 8) w98) fun x102 w101 => gB1 (tLd w101 5 x102) fun x103 => gB1 (tSt w101 5 x102 (x103 + (nI 1))) fun w104 => gB2 (t_X2_at x86 x87 (nI 8) w104) fun x106 w105 => gB1 (tLd w105 5 x106) fun x107 => if x107 = (nI 3) then gB2 (t_X2_handles x86 x87 (nI 7) (nI 8) w105) fun _ w110 => k80 x86 x87 w110 else gB2 (t_X2_triesToCompensate x86 x87 w105) fun _ w109 => k80 x86 x87 w109 else some ((nI 0), w88)) fun k84 => if 0 ≤ x83 then k84 x78 x79 w81 else gB2 (t_X2_nextToCompensate x78 x79 w81) fun x114 w113 => if 0 ≤ x114 then gB2 (t_X2_at x78 x79 (nI 7) w113) fun x117 w116 => gB1 (tSt w116 5 x117 x114) fun w118 => gB2 (t_X2_at x78 x79 (nI 8) w118) fun x120 w119 => gB1 (tSt w119 5 x120 (nI 0)) fun w121 => gB2 (t_X2_triesToCompensate x78 x79 w121) fun _ w122 => k84 x78 x79 w122 else some ((nI 1), w113)) 20000 x6 x7 w76 else gB2 (t_X2_triesToCompensate x6 x7 w25) fun _ w29 => gL2 (fun k33 (x31 : Int32) (x32 : Int32) (w30 : TS) => gB2 (t_X2_at x31 x32 (nI 7) w30) fun x35 w34 => gB1 (tLd w34 5 x35) fun x36 => gBd (fun (x39 : Int32) (x40 : Int32) (w38 : TS) => gB2 (t_X2_at x39 x40 (nI 9) w38) fun x42 w41 => gB1 (tLd w41 5 x42) fun x43 => gB1 (tLd w41 5 (nI 0)) fun x44 => if x43 ≤ x44 then gB2 (t_X2_at x39 x40 (nI 7) w41) fun x47 w46 => gB1 (tLd w46 5 x47) fun x48 => gB2 (t_X2_nodePart x39 x48 (nI 4) w46) fun x50 w49 => gB2 (t_X2_fails x50 w49) fun x52 w51 => if x52 = 0 then gB2 (t_X2_handles x39 x40 (nI 6) (nI 7) w51) fun _ w64 => k33 x39 x40 w64 else gB2 (t_X2_at x39 x40 (nI 8) w51) fun x55 w54 => gB1 (tLd w54 5 x55) fun x56 => gB1 (tSt w54 5 x55 (x56 + (nI 1))) fun w57 => gB2 (t_X2_at x39 x40 (nI 8) w57) fun x59 w58 => gB1 (tLd w58 5 x59) fun x60 => if x60 = (nI 3) then gB2 (t_X2_handles x39 x40 (nI 7) (nI 8) w58) fun _ w63 => k33 x39 x40 w63 else gB2 (t_X2_triesToCompensate x39 x40 w58) fun _ w62 => k33 x39 x40 w62 else some ((nI 0), w41)) fun k37 => if 0 ≤ x36 then k37 x31 x32 w34 else gB2 (t_X2_nextToCompensate x31 x32 w34) fun x67 w66 => if 0 ≤ x67 then gB2 (t_X2_at x31 x32 (nI 7) w66) fun x70 w69 => gB1 (tSt w69 5 x70 x67) fun w71 => gB2 (t_X2_at x31 x32 (nI 8) w71) fun x73 w72 => gB1 (tSt w72 5 x73 (nI 0)) fun w74 => gB2 (t_X2_triesToCompensate x31 x32 w74) fun _ w75 => k37 x31 x32 w75 else some ((nI 1), w66)) 20000 x6 x7 w29 else some ((nI 0), w8)) fun k4 => if 0 ≤ x3 then k4 p1 p2 w1 else gB2 (t_X2_nextToCompensate p1 p2 w1) fun x172 w171 => if 0 ≤ x172 then gB2 (t_X2_at p1 p2 (nI 7) w171) fun x175 w174 => gB1 (tSt w174 5 x175 x172) fun w176 => gB2 (t_X2_at p1 p2 (nI 8) w176) fun x178 w177 => gB1 (tSt w177 5 x178 (nI 0)) fun w179 => gB2 (t_X2_triesToCompensate p1 p2 w179) fun _ w180 => k4 p1 p2 w180 else some ((nI 1), w171)
set_option maxHeartbeats 4000000 in
set_option maxRecDepth 100000 in
theorem kt_X2_compensates {D : va_G} {dA : Nat → ClassId} {A : Nat → Prop} {K : Nat → Nat} {l : Launch} {wb : gw} {ad : Nat → Nat} (hinj : tInj ad) {h : Nat} (hh : 5 ≤ h) {p1 : Int32} {p2 : Int32} {w0 ww : TS} {rr : Int32} (hf : t_X2_compensates p1 p2 w0 = some (rr, ww)) : gMet D dA A K l yX2_compensates (ws_ yX2_compensates cX2_compensates 4 (some .boolean)) h [(ga (some (ad 0))), (gi p1), (gi p2)] (some (gi rr)) (twOf wb ad w0) (twOf wb ad ww) := by
  refine j_start (own := RX2) (by decide +kernel) rfl (Nat.le_of_ble_eq_true rfl) ?_
  intro p e R s m args below meth c C hr hin hw
  unfold t_X2_compensates at hf
  show gJ D dA A K p l e R s m args below meth c (gEnd D dA A K below args s (twOf wb ad w0) (some (gi rr)) (twOf wb ad ww)) 4 0 [(0, (ga (some (ad 0)))), (1, (gi p1)), (2, (gi p2))] [] (twOf wb ad w0)
  refine j_aload_n C dX2_compensates_0 rfl ?_
  refine j_get (v := (ga (some (ad 5)))) C fl_X2_22_2 dX2_compensates_1 (tw_F hinj rfl) ?_
  refine j_iload_n C dX2_compensates_4 rfl ?_
  refine j_iload_n C dX2_compensates_5 rfl ?_
  refine j_bipush (v := (nI 7)) C dX2_compensates_6 (by decide) ?_
  replace hf := gB2_e hf
  obtain ⟨x2, w1, ew1, hf⟩ := hf
  refine j_callS (As := [(gi p1), (gi p2), (gi (nI 7))]) (rest := [(ga (some (ad 5)))]) (v := (some (gi x2))) C (by omega) (kt_X2_at hinj (by omega) ew1) q1801 q1802 q93 q1803 hd_X2_at (by decide) rfl (Nat.le_of_ble_eq_true rfl) dX2_compensates_8 ?_
  replace hf := gB1_e hf
  obtain ⟨x3, ex3, hf⟩ := hf
  refine j_iald C (tw_ld hinj ex3) dX2_compensates_11 ?_
  replace hf := gBd_x hf
  obtain ⟨k4, ek4, hf⟩ := hf
  have jk4 : ∀ (x6 : Int32) (x7 : Int32) (w5 : TS), k4 x6 x7 w5 = some (rr, ww) → gJ D dA A K p l e R s m args below meth c (gEnd D dA A K below args s (twOf wb ad w0) (some (gi rr)) (twOf wb ad ww)) 4 60 [(0, (ga (some (ad 0)))), (1, (gi x6)), (2, (gi x7))] [] (twOf wb ad w5) := by
    intro x6 x7 w5 hf
    rw [ek4] at hf
    dsimp only at hf
    refine j_aload_n C dX2_compensates_60 rfl ?_
    refine j_get (v := (ga (some (ad 5)))) C fl_X2_22_2 dX2_compensates_61 (tw_F hinj rfl) ?_
    refine j_iload_n C dX2_compensates_64 rfl ?_
    refine j_iload_n C dX2_compensates_65 rfl ?_
    refine j_bipush (v := (nI 9)) C dX2_compensates_66 (by decide) ?_
    replace hf := gB2_e hf
    obtain ⟨x9, w8, ew8, hf⟩ := hf
    refine j_callS (As := [(gi x6), (gi x7), (gi (nI 9))]) (rest := [(ga (some (ad 5)))]) (v := (some (gi x9))) C (by omega) (kt_X2_at hinj (by omega) ew8) q1801 q1802 q93 q1803 hd_X2_at (by decide) rfl (Nat.le_of_ble_eq_true rfl) dX2_compensates_68 ?_
    replace hf := gB1_e hf
    obtain ⟨x10, ex10, hf⟩ := hf
    refine j_iald C (tw_ld hinj ex10) dX2_compensates_71 ?_
    refine j_aload_n C dX2_compensates_72 rfl ?_
    refine j_get (v := (ga (some (ad 5)))) C fl_X2_22_2 dX2_compensates_73 (tw_F hinj rfl) ?_
    refine j_iconst (v := (nI 0)) C dX2_compensates_76 (by decide) ?_
    replace hf := gB1_e hf
    obtain ⟨x11, ex11, hf⟩ := hf
    refine j_iald C (tw_ld hinj ex11) dX2_compensates_77 ?_
    refine j_icmp_le (tgt := 83) C dX2_compensates_78 (by decide) (fun c12 => ?_) (fun c12 => ?_)
    · replace hf := gIf_t hf c12
      refine j_aload_n C dX2_compensates_83 rfl ?_
      refine j_aload_n C dX2_compensates_84 rfl ?_
      refine j_iload_n C dX2_compensates_85 rfl ?_
      refine j_aload_n C dX2_compensates_86 rfl ?_
      refine j_get (v := (ga (some (ad 5)))) C fl_X2_22_2 dX2_compensates_87 (tw_F hinj rfl) ?_
      refine j_iload_n C dX2_compensates_90 rfl ?_
      refine j_iload_n C dX2_compensates_91 rfl ?_
      refine j_bipush (v := (nI 7)) C dX2_compensates_92 (by decide) ?_
      replace hf := gB2_e hf
      obtain ⟨x14, w13, ew13, hf⟩ := hf
      refine j_callS (As := [(gi x6), (gi x7), (gi (nI 7))]) (rest := [(ga (some (ad 5))), (gi x6), (ga (some (ad 0))), (ga (some (ad 0)))]) (v := (some (gi x14))) C (by omega) (kt_X2_at hinj (by omega) ew13) q1801 q1802 q93 q1803 hd_X2_at (by decide) rfl (Nat.le_of_ble_eq_true rfl) dX2_compensates_94 ?_
      replace hf := gB1_e hf
      obtain ⟨x15, ex15, hf⟩ := hf
      refine j_iald C (tw_ld hinj ex15) dX2_compensates_97 ?_
      refine j_iconst (v := (nI 4)) C dX2_compensates_98 (by decide) ?_
      replace hf := gB2_e hf
      obtain ⟨x17, w16, ew16, hf⟩ := hf
      refine j_callV (As := [(gi x6), (gi x15), (gi (nI 4))]) (rest := [(ga (some (ad 0)))]) (v := (some (gi x17))) C (by omega) (kt_X2_nodePart hinj (by omega) ew16) (tw_cls hinj) rfl q1812 q1814 qs60 q93 q1815 ⟨rfl, hd_X2_nodePart⟩ (by decide) rfl (Nat.le_of_ble_eq_true rfl) dX2_compensates_99 ?_
      replace hf := gB2_e hf
      obtain ⟨x19, w18, ew18, hf⟩ := hf
      refine j_callV (As := [(gi x17)]) (rest := []) (v := (some (gi x19))) C (by omega) (kt_X2_fails hinj (by omega) ew18) (tw_cls hinj) rfl q1840 q1842 qs67 q93 q1843 ⟨rfl, hd_X2_fails⟩ (by decide) rfl (Nat.le_of_ble_eq_true rfl) dX2_compensates_102 ?_
      refine j_if_ne (tgt := 121) C dX2_compensates_105 (by decide) (fun c20 => ?_) (fun c20 => ?_)
      · replace hf := gIf_f hf c20
        refine j_aload_n C dX2_compensates_121 rfl ?_
        refine j_get (v := (ga (some (ad 5)))) C fl_X2_22_2 dX2_compensates_122 (tw_F hinj rfl) ?_
        refine j_iload_n C dX2_compensates_125 rfl ?_
        refine j_iload_n C dX2_compensates_126 rfl ?_
        refine j_bipush (v := (nI 8)) C dX2_compensates_127 (by decide) ?_
        replace hf := gB2_e hf
        obtain ⟨x22, w21, ew21, hf⟩ := hf
        refine j_callS (As := [(gi x6), (gi x7), (gi (nI 8))]) (rest := [(ga (some (ad 5)))]) (v := (some (gi x22))) C (by omega) (kt_X2_at hinj (by omega) ew21) q1801 q1802 q93 q1803 hd_X2_at (by decide) rfl (Nat.le_of_ble_eq_true rfl) dX2_compensates_129 ?_
        refine j_dup2 C dX2_compensates_132 ?_
        replace hf := gB1_e hf
        obtain ⟨x23, ex23, hf⟩ := hf
        refine j_iald C (tw_ld hinj ex23) dX2_compensates_133 ?_
        refine j_iconst (v := (nI 1)) C dX2_compensates_134 (by decide) ?_
        refine j_iadd C dX2_compensates_135 ?_
        replace hf := gB1_e hf
        obtain ⟨w24, ew24, hf⟩ := hf
        refine j_iast C (tw_st hinj ew24) dX2_compensates_136 ?_
        refine j_aload_n C dX2_compensates_137 rfl ?_
        refine j_get (v := (ga (some (ad 5)))) C fl_X2_22_2 dX2_compensates_138 (tw_F hinj rfl) ?_
        refine j_iload_n C dX2_compensates_141 rfl ?_
        refine j_iload_n C dX2_compensates_142 rfl ?_
        refine j_bipush (v := (nI 8)) C dX2_compensates_143 (by decide) ?_
        replace hf := gB2_e hf
        obtain ⟨x26, w25, ew25, hf⟩ := hf
        refine j_callS (As := [(gi x6), (gi x7), (gi (nI 8))]) (rest := [(ga (some (ad 5)))]) (v := (some (gi x26))) C (by omega) (kt_X2_at hinj (by omega) ew25) q1801 q1802 q93 q1803 hd_X2_at (by decide) rfl (Nat.le_of_ble_eq_true rfl) dX2_compensates_145 ?_
        replace hf := gB1_e hf
        obtain ⟨x27, ex27, hf⟩ := hf
        refine j_iald C (tw_ld hinj ex27) dX2_compensates_148 ?_
        refine j_iconst (v := (nI 3)) C dX2_compensates_149 (by decide) ?_
        refine j_icmp_ne (tgt := 166) C dX2_compensates_150 (by decide) (fun c28 => ?_) (fun c28 => ?_)
        · replace hf := gIf_f hf c28
          refine j_aload_n C dX2_compensates_166 rfl ?_
          refine j_iload_n C dX2_compensates_167 rfl ?_
          refine j_iload_n C dX2_compensates_168 rfl ?_
          replace hf := gB2_e hf
          obtain ⟨_, w29, ew29, hf⟩ := hf
          refine j_callV (As := [(gi x6), (gi x7)]) (rest := []) (v := none) C (by omega) (kt_X2_triesToCompensate hinj (by omega) ew29) (tw_cls hinj) rfl q1884 q1886 qs78 q93 q1887 ⟨rfl, hd_X2_triesToCompensate⟩ (by decide) rfl (Nat.le_of_ble_eq_true rfl) dX2_compensates_169 ?_
          refine j_goto (tgt := 0) C dX2_compensates_172 (by decide) ?_
          refine gL2_e (fun (x31 : Int32) (x32 : Int32) (w30 : TS) => gJ D dA A K p l e R s m args below meth c (gEnd D dA A K below args s (twOf wb ad w0) (some (gi rr)) (twOf wb ad ww)) 4 0 [(0, (ga (some (ad 0)))), (1, (gi x31)), (2, (gi x32))] [] (twOf wb ad w30)) ?_ _ _ _ _ hf
          intro k33 jk33 x31 x32 w30 hf
          refine j_aload_n C dX2_compensates_0 rfl ?_
          refine j_get (v := (ga (some (ad 5)))) C fl_X2_22_2 dX2_compensates_1 (tw_F hinj rfl) ?_
          refine j_iload_n C dX2_compensates_4 rfl ?_
          refine j_iload_n C dX2_compensates_5 rfl ?_
          refine j_bipush (v := (nI 7)) C dX2_compensates_6 (by decide) ?_
          replace hf := gB2_e hf
          obtain ⟨x35, w34, ew34, hf⟩ := hf
          refine j_callS (As := [(gi x31), (gi x32), (gi (nI 7))]) (rest := [(ga (some (ad 5)))]) (v := (some (gi x35))) C (by omega) (kt_X2_at hinj (by omega) ew34) q1801 q1802 q93 q1803 hd_X2_at (by decide) rfl (Nat.le_of_ble_eq_true rfl) dX2_compensates_8 ?_
          replace hf := gB1_e hf
          obtain ⟨x36, ex36, hf⟩ := hf
          refine j_iald C (tw_ld hinj ex36) dX2_compensates_11 ?_
          replace hf := gBd_x hf
          obtain ⟨k37, ek37, hf⟩ := hf
          have jk37 : ∀ (x39 : Int32) (x40 : Int32) (w38 : TS), k37 x39 x40 w38 = some (rr, ww) → gJ D dA A K p l e R s m args below meth c (gEnd D dA A K below args s (twOf wb ad w0) (some (gi rr)) (twOf wb ad ww)) 4 60 [(0, (ga (some (ad 0)))), (1, (gi x39)), (2, (gi x40))] [] (twOf wb ad w38) := by
            intro x39 x40 w38 hf
            rw [ek37] at hf
            dsimp only at hf
            refine j_aload_n C dX2_compensates_60 rfl ?_
            refine j_get (v := (ga (some (ad 5)))) C fl_X2_22_2 dX2_compensates_61 (tw_F hinj rfl) ?_
            refine j_iload_n C dX2_compensates_64 rfl ?_
            refine j_iload_n C dX2_compensates_65 rfl ?_
            refine j_bipush (v := (nI 9)) C dX2_compensates_66 (by decide) ?_
            replace hf := gB2_e hf
            obtain ⟨x42, w41, ew41, hf⟩ := hf
            refine j_callS (As := [(gi x39), (gi x40), (gi (nI 9))]) (rest := [(ga (some (ad 5)))]) (v := (some (gi x42))) C (by omega) (kt_X2_at hinj (by omega) ew41) q1801 q1802 q93 q1803 hd_X2_at (by decide) rfl (Nat.le_of_ble_eq_true rfl) dX2_compensates_68 ?_
            replace hf := gB1_e hf
            obtain ⟨x43, ex43, hf⟩ := hf
            refine j_iald C (tw_ld hinj ex43) dX2_compensates_71 ?_
            refine j_aload_n C dX2_compensates_72 rfl ?_
            refine j_get (v := (ga (some (ad 5)))) C fl_X2_22_2 dX2_compensates_73 (tw_F hinj rfl) ?_
            refine j_iconst (v := (nI 0)) C dX2_compensates_76 (by decide) ?_
            replace hf := gB1_e hf
            obtain ⟨x44, ex44, hf⟩ := hf
            refine j_iald C (tw_ld hinj ex44) dX2_compensates_77 ?_
            refine j_icmp_le (tgt := 83) C dX2_compensates_78 (by decide) (fun c45 => ?_) (fun c45 => ?_)
            · replace hf := gIf_t hf c45
              refine j_aload_n C dX2_compensates_83 rfl ?_
              refine j_aload_n C dX2_compensates_84 rfl ?_
              refine j_iload_n C dX2_compensates_85 rfl ?_
              refine j_aload_n C dX2_compensates_86 rfl ?_
              refine j_get (v := (ga (some (ad 5)))) C fl_X2_22_2 dX2_compensates_87 (tw_F hinj rfl) ?_
              refine j_iload_n C dX2_compensates_90 rfl ?_
              refine j_iload_n C dX2_compensates_91 rfl ?_
              refine j_bipush (v := (nI 7)) C dX2_compensates_92 (by decide) ?_
              replace hf := gB2_e hf
              obtain ⟨x47, w46, ew46, hf⟩ := hf
              refine j_callS (As := [(gi x39), (gi x40), (gi (nI 7))]) (rest := [(ga (some (ad 5))), (gi x39), (ga (some (ad 0))), (ga (some (ad 0)))]) (v := (some (gi x47))) C (by omega) (kt_X2_at hinj (by omega) ew46) q1801 q1802 q93 q1803 hd_X2_at (by decide) rfl (Nat.le_of_ble_eq_true rfl) dX2_compensates_94 ?_
              replace hf := gB1_e hf
              obtain ⟨x48, ex48, hf⟩ := hf
              refine j_iald C (tw_ld hinj ex48) dX2_compensates_97 ?_
              refine j_iconst (v := (nI 4)) C dX2_compensates_98 (by decide) ?_
              replace hf := gB2_e hf
              obtain ⟨x50, w49, ew49, hf⟩ := hf
              refine j_callV (As := [(gi x39), (gi x48), (gi (nI 4))]) (rest := [(ga (some (ad 0)))]) (v := (some (gi x50))) C (by omega) (kt_X2_nodePart hinj (by omega) ew49) (tw_cls hinj) rfl q1812 q1814 qs60 q93 q1815 ⟨rfl, hd_X2_nodePart⟩ (by decide) rfl (Nat.le_of_ble_eq_true rfl) dX2_compensates_99 ?_
              replace hf := gB2_e hf
              obtain ⟨x52, w51, ew51, hf⟩ := hf
              refine j_callV (As := [(gi x50)]) (rest := []) (v := (some (gi x52))) C (by omega) (kt_X2_fails hinj (by omega) ew51) (tw_cls hinj) rfl q1840 q1842 qs67 q93 q1843 ⟨rfl, hd_X2_fails⟩ (by decide) rfl (Nat.le_of_ble_eq_true rfl) dX2_compensates_102 ?_
              refine j_if_ne (tgt := 121) C dX2_compensates_105 (by decide) (fun c53 => ?_) (fun c53 => ?_)
              · replace hf := gIf_f hf c53
                refine j_aload_n C dX2_compensates_121 rfl ?_
                refine j_get (v := (ga (some (ad 5)))) C fl_X2_22_2 dX2_compensates_122 (tw_F hinj rfl) ?_
                refine j_iload_n C dX2_compensates_125 rfl ?_
                refine j_iload_n C dX2_compensates_126 rfl ?_
                refine j_bipush (v := (nI 8)) C dX2_compensates_127 (by decide) ?_
                replace hf := gB2_e hf
                obtain ⟨x55, w54, ew54, hf⟩ := hf
                refine j_callS (As := [(gi x39), (gi x40), (gi (nI 8))]) (rest := [(ga (some (ad 5)))]) (v := (some (gi x55))) C (by omega) (kt_X2_at hinj (by omega) ew54) q1801 q1802 q93 q1803 hd_X2_at (by decide) rfl (Nat.le_of_ble_eq_true rfl) dX2_compensates_129 ?_
                refine j_dup2 C dX2_compensates_132 ?_
                replace hf := gB1_e hf
                obtain ⟨x56, ex56, hf⟩ := hf
                refine j_iald C (tw_ld hinj ex56) dX2_compensates_133 ?_
                refine j_iconst (v := (nI 1)) C dX2_compensates_134 (by decide) ?_
                refine j_iadd C dX2_compensates_135 ?_
                replace hf := gB1_e hf
                obtain ⟨w57, ew57, hf⟩ := hf
                refine j_iast C (tw_st hinj ew57) dX2_compensates_136 ?_
                refine j_aload_n C dX2_compensates_137 rfl ?_
                refine j_get (v := (ga (some (ad 5)))) C fl_X2_22_2 dX2_compensates_138 (tw_F hinj rfl) ?_
                refine j_iload_n C dX2_compensates_141 rfl ?_
                refine j_iload_n C dX2_compensates_142 rfl ?_
                refine j_bipush (v := (nI 8)) C dX2_compensates_143 (by decide) ?_
                replace hf := gB2_e hf
                obtain ⟨x59, w58, ew58, hf⟩ := hf
                refine j_callS (As := [(gi x39), (gi x40), (gi (nI 8))]) (rest := [(ga (some (ad 5)))]) (v := (some (gi x59))) C (by omega) (kt_X2_at hinj (by omega) ew58) q1801 q1802 q93 q1803 hd_X2_at (by decide) rfl (Nat.le_of_ble_eq_true rfl) dX2_compensates_145 ?_
                replace hf := gB1_e hf
                obtain ⟨x60, ex60, hf⟩ := hf
                refine j_iald C (tw_ld hinj ex60) dX2_compensates_148 ?_
                refine j_iconst (v := (nI 3)) C dX2_compensates_149 (by decide) ?_
                refine j_icmp_ne (tgt := 166) C dX2_compensates_150 (by decide) (fun c61 => ?_) (fun c61 => ?_)
                · replace hf := gIf_f hf c61
                  refine j_aload_n C dX2_compensates_166 rfl ?_
                  refine j_iload_n C dX2_compensates_167 rfl ?_
                  refine j_iload_n C dX2_compensates_168 rfl ?_
                  replace hf := gB2_e hf
                  obtain ⟨_, w62, ew62, hf⟩ := hf
                  refine j_callV (As := [(gi x39), (gi x40)]) (rest := []) (v := none) C (by omega) (kt_X2_triesToCompensate hinj (by omega) ew62) (tw_cls hinj) rfl q1884 q1886 qs78 q93 q1887 ⟨rfl, hd_X2_triesToCompensate⟩ (by decide) rfl (Nat.le_of_ble_eq_true rfl) dX2_compensates_169 ?_
                  refine j_goto (tgt := 0) C dX2_compensates_172 (by decide) ?_
                  exact jk33 _ _ _ hf
                · replace hf := gIf_t hf c61
                  refine j_aload_n C dX2_compensates_153 rfl ?_
                  refine j_iload_n C dX2_compensates_154 rfl ?_
                  refine j_iload_n C dX2_compensates_155 rfl ?_
                  refine j_bipush (v := (nI 7)) C dX2_compensates_156 (by decide) ?_
                  refine j_bipush (v := (nI 8)) C dX2_compensates_158 (by decide) ?_
                  replace hf := gB2_e hf
                  obtain ⟨_, w63, ew63, hf⟩ := hf
                  refine j_callV (As := [(gi x39), (gi x40), (gi (nI 7)), (gi (nI 8))]) (rest := []) (v := none) C (by omega) (kt_X2_handles hinj (by omega) ew63) (tw_cls hinj) rfl q1888 q1890 qs79 q93 q1891 ⟨rfl, hd_X2_handles⟩ (by decide) rfl (Nat.le_of_ble_eq_true rfl) dX2_compensates_160 ?_
                  refine j_goto (tgt := 0) C dX2_compensates_163 (by decide) ?_
                  exact jk33 _ _ _ hf
              · replace hf := gIf_t hf c53
                refine j_aload_n C dX2_compensates_108 rfl ?_
                refine j_iload_n C dX2_compensates_109 rfl ?_
                refine j_iload_n C dX2_compensates_110 rfl ?_
                refine j_bipush (v := (nI 6)) C dX2_compensates_111 (by decide) ?_
                refine j_bipush (v := (nI 7)) C dX2_compensates_113 (by decide) ?_
                replace hf := gB2_e hf
                obtain ⟨_, w64, ew64, hf⟩ := hf
                refine j_callV (As := [(gi x39), (gi x40), (gi (nI 6)), (gi (nI 7))]) (rest := []) (v := none) C (by omega) (kt_X2_handles hinj (by omega) ew64) (tw_cls hinj) rfl q1888 q1890 qs79 q93 q1891 ⟨rfl, hd_X2_handles⟩ (by decide) rfl (Nat.le_of_ble_eq_true rfl) dX2_compensates_115 ?_
                refine j_goto (tgt := 0) C dX2_compensates_118 (by decide) ?_
                exact jk33 _ _ _ hf
            · replace hf := gIf_f hf c45
              refine j_iconst (v := (nI 0)) C dX2_compensates_81 (by decide) ?_
              obtain ⟨rfl, rfl⟩ := gSome hf
              exact j_zret C hr (by decide) hw dX2_compensates_82
          clear ek37
          refine j_if_ge (tgt := 60) C dX2_compensates_12 (by decide) (fun c65 => ?_) (fun c65 => ?_)
          · replace hf := gIf_t hf c65
            exact jk37 _ _ _ hf
          · replace hf := gIf_f hf c65
            refine j_aload_n C dX2_compensates_15 rfl ?_
            refine j_iload_n C dX2_compensates_16 rfl ?_
            refine j_iload_n C dX2_compensates_17 rfl ?_
            replace hf := gB2_e hf
            obtain ⟨x67, w66, ew66, hf⟩ := hf
            refine j_callV (As := [(gi x31), (gi x32)]) (rest := []) (v := (some (gi x67))) C (by omega) (kt_X2_nextToCompensate hinj (by omega) ew66) (tw_cls hinj) rfl q1876 q1878 qs76 q93 q1879 ⟨rfl, hd_X2_nextToCompensate⟩ (by decide) rfl (Nat.le_of_ble_eq_true rfl) dX2_compensates_18 ?_
            refine j_istore_n (lv' := [(3, (gi x67)), (0, (ga (some (ad 0)))), (1, (gi x31)), (2, (gi x32))]) C dX2_compensates_21 (by decide) rfl ?_
            refine j_iload_n C dX2_compensates_22 rfl ?_
            refine j_if_ge (tgt := 28) C dX2_compensates_23 (by decide) (fun c68 => ?_) (fun c68 => ?_)
            · replace hf := gIf_t hf c68
              refine j_aload_n C dX2_compensates_28 rfl ?_
              refine j_get (v := (ga (some (ad 5)))) C fl_X2_22_2 dX2_compensates_29 (tw_F hinj rfl) ?_
              refine j_iload_n C dX2_compensates_32 rfl ?_
              refine j_iload_n C dX2_compensates_33 rfl ?_
              refine j_bipush (v := (nI 7)) C dX2_compensates_34 (by decide) ?_
              replace hf := gB2_e hf
              obtain ⟨x70, w69, ew69, hf⟩ := hf
              refine j_callS (As := [(gi x31), (gi x32), (gi (nI 7))]) (rest := [(ga (some (ad 5)))]) (v := (some (gi x70))) C (by omega) (kt_X2_at hinj (by omega) ew69) q1801 q1802 q93 q1803 hd_X2_at (by decide) rfl (Nat.le_of_ble_eq_true rfl) dX2_compensates_36 ?_
              refine j_iload_n C dX2_compensates_39 rfl ?_
              replace hf := gB1_e hf
              obtain ⟨w71, ew71, hf⟩ := hf
              refine j_iast C (tw_st hinj ew71) dX2_compensates_40 ?_
              refine j_aload_n C dX2_compensates_41 rfl ?_
              refine j_get (v := (ga (some (ad 5)))) C fl_X2_22_2 dX2_compensates_42 (tw_F hinj rfl) ?_
              refine j_iload_n C dX2_compensates_45 rfl ?_
              refine j_iload_n C dX2_compensates_46 rfl ?_
              refine j_bipush (v := (nI 8)) C dX2_compensates_47 (by decide) ?_
              replace hf := gB2_e hf
              obtain ⟨x73, w72, ew72, hf⟩ := hf
              refine j_callS (As := [(gi x31), (gi x32), (gi (nI 8))]) (rest := [(ga (some (ad 5)))]) (v := (some (gi x73))) C (by omega) (kt_X2_at hinj (by omega) ew72) q1801 q1802 q93 q1803 hd_X2_at (by decide) rfl (Nat.le_of_ble_eq_true rfl) dX2_compensates_49 ?_
              refine j_iconst (v := (nI 0)) C dX2_compensates_52 (by decide) ?_
              replace hf := gB1_e hf
              obtain ⟨w74, ew74, hf⟩ := hf
              refine j_iast C (tw_st hinj ew74) dX2_compensates_53 ?_
              refine j_aload_n C dX2_compensates_54 rfl ?_
              refine j_iload_n C dX2_compensates_55 rfl ?_
              refine j_iload_n C dX2_compensates_56 rfl ?_
              replace hf := gB2_e hf
              obtain ⟨_, w75, ew75, hf⟩ := hf
              refine j_callV (As := [(gi x31), (gi x32)]) (rest := []) (v := none) C (by omega) (kt_X2_triesToCompensate hinj (by omega) ew75) (tw_cls hinj) rfl q1884 q1886 qs78 q93 q1887 ⟨rfl, hd_X2_triesToCompensate⟩ (by decide) rfl (Nat.le_of_ble_eq_true rfl) dX2_compensates_57 ?_
              refine j_sub (lv' := [(0, (ga (some (ad 0)))), (1, (gi x31)), (2, (gi x32))]) (gL_cons rfl (gL_cons rfl (gL_cons rfl (gL_nil)))) ?_
              exact jk37 _ _ _ hf
            · replace hf := gIf_f hf c68
              refine j_iconst (v := (nI 1)) C dX2_compensates_26 (by decide) ?_
              obtain ⟨rfl, rfl⟩ := gSome hf
              exact j_zret C hr (by decide) hw dX2_compensates_27
        · replace hf := gIf_t hf c28
          refine j_aload_n C dX2_compensates_153 rfl ?_
          refine j_iload_n C dX2_compensates_154 rfl ?_
          refine j_iload_n C dX2_compensates_155 rfl ?_
          refine j_bipush (v := (nI 7)) C dX2_compensates_156 (by decide) ?_
          refine j_bipush (v := (nI 8)) C dX2_compensates_158 (by decide) ?_
          replace hf := gB2_e hf
          obtain ⟨_, w76, ew76, hf⟩ := hf
          refine j_callV (As := [(gi x6), (gi x7), (gi (nI 7)), (gi (nI 8))]) (rest := []) (v := none) C (by omega) (kt_X2_handles hinj (by omega) ew76) (tw_cls hinj) rfl q1888 q1890 qs79 q93 q1891 ⟨rfl, hd_X2_handles⟩ (by decide) rfl (Nat.le_of_ble_eq_true rfl) dX2_compensates_160 ?_
          refine j_goto (tgt := 0) C dX2_compensates_163 (by decide) ?_
          refine gL2_e (fun (x78 : Int32) (x79 : Int32) (w77 : TS) => gJ D dA A K p l e R s m args below meth c (gEnd D dA A K below args s (twOf wb ad w0) (some (gi rr)) (twOf wb ad ww)) 4 0 [(0, (ga (some (ad 0)))), (1, (gi x78)), (2, (gi x79))] [] (twOf wb ad w77)) ?_ _ _ _ _ hf
          intro k80 jk80 x78 x79 w77 hf
          refine j_aload_n C dX2_compensates_0 rfl ?_
          refine j_get (v := (ga (some (ad 5)))) C fl_X2_22_2 dX2_compensates_1 (tw_F hinj rfl) ?_
          refine j_iload_n C dX2_compensates_4 rfl ?_
          refine j_iload_n C dX2_compensates_5 rfl ?_
          refine j_bipush (v := (nI 7)) C dX2_compensates_6 (by decide) ?_
          replace hf := gB2_e hf
          obtain ⟨x82, w81, ew81, hf⟩ := hf
          refine j_callS (As := [(gi x78), (gi x79), (gi (nI 7))]) (rest := [(ga (some (ad 5)))]) (v := (some (gi x82))) C (by omega) (kt_X2_at hinj (by omega) ew81) q1801 q1802 q93 q1803 hd_X2_at (by decide) rfl (Nat.le_of_ble_eq_true rfl) dX2_compensates_8 ?_
          replace hf := gB1_e hf
          obtain ⟨x83, ex83, hf⟩ := hf
          refine j_iald C (tw_ld hinj ex83) dX2_compensates_11 ?_
          replace hf := gBd_x hf
          obtain ⟨k84, ek84, hf⟩ := hf
          have jk84 : ∀ (x86 : Int32) (x87 : Int32) (w85 : TS), k84 x86 x87 w85 = some (rr, ww) → gJ D dA A K p l e R s m args below meth c (gEnd D dA A K below args s (twOf wb ad w0) (some (gi rr)) (twOf wb ad ww)) 4 60 [(0, (ga (some (ad 0)))), (1, (gi x86)), (2, (gi x87))] [] (twOf wb ad w85) := by
            intro x86 x87 w85 hf
            rw [ek84] at hf
            dsimp only at hf
            refine j_aload_n C dX2_compensates_60 rfl ?_
            refine j_get (v := (ga (some (ad 5)))) C fl_X2_22_2 dX2_compensates_61 (tw_F hinj rfl) ?_
            refine j_iload_n C dX2_compensates_64 rfl ?_
            refine j_iload_n C dX2_compensates_65 rfl ?_
            refine j_bipush (v := (nI 9)) C dX2_compensates_66 (by decide) ?_
            replace hf := gB2_e hf
            obtain ⟨x89, w88, ew88, hf⟩ := hf
            refine j_callS (As := [(gi x86), (gi x87), (gi (nI 9))]) (rest := [(ga (some (ad 5)))]) (v := (some (gi x89))) C (by omega) (kt_X2_at hinj (by omega) ew88) q1801 q1802 q93 q1803 hd_X2_at (by decide) rfl (Nat.le_of_ble_eq_true rfl) dX2_compensates_68 ?_
            replace hf := gB1_e hf
            obtain ⟨x90, ex90, hf⟩ := hf
            refine j_iald C (tw_ld hinj ex90) dX2_compensates_71 ?_
            refine j_aload_n C dX2_compensates_72 rfl ?_
            refine j_get (v := (ga (some (ad 5)))) C fl_X2_22_2 dX2_compensates_73 (tw_F hinj rfl) ?_
            refine j_iconst (v := (nI 0)) C dX2_compensates_76 (by decide) ?_
            replace hf := gB1_e hf
            obtain ⟨x91, ex91, hf⟩ := hf
            refine j_iald C (tw_ld hinj ex91) dX2_compensates_77 ?_
            refine j_icmp_le (tgt := 83) C dX2_compensates_78 (by decide) (fun c92 => ?_) (fun c92 => ?_)
            · replace hf := gIf_t hf c92
              refine j_aload_n C dX2_compensates_83 rfl ?_
              refine j_aload_n C dX2_compensates_84 rfl ?_
              refine j_iload_n C dX2_compensates_85 rfl ?_
              refine j_aload_n C dX2_compensates_86 rfl ?_
              refine j_get (v := (ga (some (ad 5)))) C fl_X2_22_2 dX2_compensates_87 (tw_F hinj rfl) ?_
              refine j_iload_n C dX2_compensates_90 rfl ?_
              refine j_iload_n C dX2_compensates_91 rfl ?_
              refine j_bipush (v := (nI 7)) C dX2_compensates_92 (by decide) ?_
              replace hf := gB2_e hf
              obtain ⟨x94, w93, ew93, hf⟩ := hf
              refine j_callS (As := [(gi x86), (gi x87), (gi (nI 7))]) (rest := [(ga (some (ad 5))), (gi x86), (ga (some (ad 0))), (ga (some (ad 0)))]) (v := (some (gi x94))) C (by omega) (kt_X2_at hinj (by omega) ew93) q1801 q1802 q93 q1803 hd_X2_at (by decide) rfl (Nat.le_of_ble_eq_true rfl) dX2_compensates_94 ?_
              replace hf := gB1_e hf
              obtain ⟨x95, ex95, hf⟩ := hf
              refine j_iald C (tw_ld hinj ex95) dX2_compensates_97 ?_
              refine j_iconst (v := (nI 4)) C dX2_compensates_98 (by decide) ?_
              replace hf := gB2_e hf
              obtain ⟨x97, w96, ew96, hf⟩ := hf
              refine j_callV (As := [(gi x86), (gi x95), (gi (nI 4))]) (rest := [(ga (some (ad 0)))]) (v := (some (gi x97))) C (by omega) (kt_X2_nodePart hinj (by omega) ew96) (tw_cls hinj) rfl q1812 q1814 qs60 q93 q1815 ⟨rfl, hd_X2_nodePart⟩ (by decide) rfl (Nat.le_of_ble_eq_true rfl) dX2_compensates_99 ?_
              replace hf := gB2_e hf
              obtain ⟨x99, w98, ew98, hf⟩ := hf
              refine j_callV (As := [(gi x97)]) (rest := []) (v := (some (gi x99))) C (by omega) (kt_X2_fails hinj (by omega) ew98) (tw_cls hinj) rfl q1840 q1842 qs67 q93 q1843 ⟨rfl, hd_X2_fails⟩ (by decide) rfl (Nat.le_of_ble_eq_true rfl) dX2_compensates_102 ?_
              refine j_if_ne (tgt := 121) C dX2_compensates_105 (by decide) (fun c100 => ?_) (fun c100 => ?_)
              · replace hf := gIf_f hf c100
                refine j_aload_n C dX2_compensates_121 rfl ?_
                refine j_get (v := (ga (some (ad 5)))) C fl_X2_22_2 dX2_compensates_122 (tw_F hinj rfl) ?_
                refine j_iload_n C dX2_compensates_125 rfl ?_
                refine j_iload_n C dX2_compensates_126 rfl ?_
                refine j_bipush (v := (nI 8)) C dX2_compensates_127 (by decide) ?_
                replace hf := gB2_e hf
                obtain ⟨x102, w101, ew101, hf⟩ := hf
                refine j_callS (As := [(gi x86), (gi x87), (gi (nI 8))]) (rest := [(ga (some (ad 5)))]) (v := (some (gi x102))) C (by omega) (kt_X2_at hinj (by omega) ew101) q1801 q1802 q93 q1803 hd_X2_at (by decide) rfl (Nat.le_of_ble_eq_true rfl) dX2_compensates_129 ?_
                refine j_dup2 C dX2_compensates_132 ?_
                replace hf := gB1_e hf
                obtain ⟨x103, ex103, hf⟩ := hf
                refine j_iald C (tw_ld hinj ex103) dX2_compensates_133 ?_
                refine j_iconst (v := (nI 1)) C dX2_compensates_134 (by decide) ?_
                refine j_iadd C dX2_compensates_135 ?_
                replace hf := gB1_e hf
                obtain ⟨w104, ew104, hf⟩ := hf
                refine j_iast C (tw_st hinj ew104) dX2_compensates_136 ?_
                refine j_aload_n C dX2_compensates_137 rfl ?_
                refine j_get (v := (ga (some (ad 5)))) C fl_X2_22_2 dX2_compensates_138 (tw_F hinj rfl) ?_
                refine j_iload_n C dX2_compensates_141 rfl ?_
                refine j_iload_n C dX2_compensates_142 rfl ?_
                refine j_bipush (v := (nI 8)) C dX2_compensates_143 (by decide) ?_
                replace hf := gB2_e hf
                obtain ⟨x106, w105, ew105, hf⟩ := hf
                refine j_callS (As := [(gi x86), (gi x87), (gi (nI 8))]) (rest := [(ga (some (ad 5)))]) (v := (some (gi x106))) C (by omega) (kt_X2_at hinj (by omega) ew105) q1801 q1802 q93 q1803 hd_X2_at (by decide) rfl (Nat.le_of_ble_eq_true rfl) dX2_compensates_145 ?_
                replace hf := gB1_e hf
                obtain ⟨x107, ex107, hf⟩ := hf
                refine j_iald C (tw_ld hinj ex107) dX2_compensates_148 ?_
                refine j_iconst (v := (nI 3)) C dX2_compensates_149 (by decide) ?_
                refine j_icmp_ne (tgt := 166) C dX2_compensates_150 (by decide) (fun c108 => ?_) (fun c108 => ?_)
                · replace hf := gIf_f hf c108
                  refine j_aload_n C dX2_compensates_166 rfl ?_
                  refine j_iload_n C dX2_compensates_167 rfl ?_
                  refine j_iload_n C dX2_compensates_168 rfl ?_
                  replace hf := gB2_e hf
                  obtain ⟨_, w109, ew109, hf⟩ := hf
                  refine j_callV (As := [(gi x86), (gi x87)]) (rest := []) (v := none) C (by omega) (kt_X2_triesToCompensate hinj (by omega) ew109) (tw_cls hinj) rfl q1884 q1886 qs78 q93 q1887 ⟨rfl, hd_X2_triesToCompensate⟩ (by decide) rfl (Nat.le_of_ble_eq_true rfl) dX2_compensates_169 ?_
                  refine j_goto (tgt := 0) C dX2_compensates_172 (by decide) ?_
                  exact jk80 _ _ _ hf
                · replace hf := gIf_t hf c108
                  refine j_aload_n C dX2_compensates_153 rfl ?_
                  refine j_iload_n C dX2_compensates_154 rfl ?_
                  refine j_iload_n C dX2_compensates_155 rfl ?_
                  refine j_bipush (v := (nI 7)) C dX2_compensates_156 (by decide) ?_
                  refine j_bipush (v := (nI 8)) C dX2_compensates_158 (by decide) ?_
                  replace hf := gB2_e hf
                  obtain ⟨_, w110, ew110, hf⟩ := hf
                  refine j_callV (As := [(gi x86), (gi x87), (gi (nI 7)), (gi (nI 8))]) (rest := []) (v := none) C (by omega) (kt_X2_handles hinj (by omega) ew110) (tw_cls hinj) rfl q1888 q1890 qs79 q93 q1891 ⟨rfl, hd_X2_handles⟩ (by decide) rfl (Nat.le_of_ble_eq_true rfl) dX2_compensates_160 ?_
                  refine j_goto (tgt := 0) C dX2_compensates_163 (by decide) ?_
                  exact jk80 _ _ _ hf
              · replace hf := gIf_t hf c100
                refine j_aload_n C dX2_compensates_108 rfl ?_
                refine j_iload_n C dX2_compensates_109 rfl ?_
                refine j_iload_n C dX2_compensates_110 rfl ?_
                refine j_bipush (v := (nI 6)) C dX2_compensates_111 (by decide) ?_
                refine j_bipush (v := (nI 7)) C dX2_compensates_113 (by decide) ?_
                replace hf := gB2_e hf
                obtain ⟨_, w111, ew111, hf⟩ := hf
                refine j_callV (As := [(gi x86), (gi x87), (gi (nI 6)), (gi (nI 7))]) (rest := []) (v := none) C (by omega) (kt_X2_handles hinj (by omega) ew111) (tw_cls hinj) rfl q1888 q1890 qs79 q93 q1891 ⟨rfl, hd_X2_handles⟩ (by decide) rfl (Nat.le_of_ble_eq_true rfl) dX2_compensates_115 ?_
                refine j_goto (tgt := 0) C dX2_compensates_118 (by decide) ?_
                exact jk80 _ _ _ hf
            · replace hf := gIf_f hf c92
              refine j_iconst (v := (nI 0)) C dX2_compensates_81 (by decide) ?_
              obtain ⟨rfl, rfl⟩ := gSome hf
              exact j_zret C hr (by decide) hw dX2_compensates_82
          clear ek84
          refine j_if_ge (tgt := 60) C dX2_compensates_12 (by decide) (fun c112 => ?_) (fun c112 => ?_)
          · replace hf := gIf_t hf c112
            exact jk84 _ _ _ hf
          · replace hf := gIf_f hf c112
            refine j_aload_n C dX2_compensates_15 rfl ?_
            refine j_iload_n C dX2_compensates_16 rfl ?_
            refine j_iload_n C dX2_compensates_17 rfl ?_
            replace hf := gB2_e hf
            obtain ⟨x114, w113, ew113, hf⟩ := hf
            refine j_callV (As := [(gi x78), (gi x79)]) (rest := []) (v := (some (gi x114))) C (by omega) (kt_X2_nextToCompensate hinj (by omega) ew113) (tw_cls hinj) rfl q1876 q1878 qs76 q93 q1879 ⟨rfl, hd_X2_nextToCompensate⟩ (by decide) rfl (Nat.le_of_ble_eq_true rfl) dX2_compensates_18 ?_
            refine j_istore_n (lv' := [(3, (gi x114)), (0, (ga (some (ad 0)))), (1, (gi x78)), (2, (gi x79))]) C dX2_compensates_21 (by decide) rfl ?_
            refine j_iload_n C dX2_compensates_22 rfl ?_
            refine j_if_ge (tgt := 28) C dX2_compensates_23 (by decide) (fun c115 => ?_) (fun c115 => ?_)
            · replace hf := gIf_t hf c115
              refine j_aload_n C dX2_compensates_28 rfl ?_
              refine j_get (v := (ga (some (ad 5)))) C fl_X2_22_2 dX2_compensates_29 (tw_F hinj rfl) ?_
              refine j_iload_n C dX2_compensates_32 rfl ?_
              refine j_iload_n C dX2_compensates_33 rfl ?_
              refine j_bipush (v := (nI 7)) C dX2_compensates_34 (by decide) ?_
              replace hf := gB2_e hf
              obtain ⟨x117, w116, ew116, hf⟩ := hf
              refine j_callS (As := [(gi x78), (gi x79), (gi (nI 7))]) (rest := [(ga (some (ad 5)))]) (v := (some (gi x117))) C (by omega) (kt_X2_at hinj (by omega) ew116) q1801 q1802 q93 q1803 hd_X2_at (by decide) rfl (Nat.le_of_ble_eq_true rfl) dX2_compensates_36 ?_
              refine j_iload_n C dX2_compensates_39 rfl ?_
              replace hf := gB1_e hf
              obtain ⟨w118, ew118, hf⟩ := hf
              refine j_iast C (tw_st hinj ew118) dX2_compensates_40 ?_
              refine j_aload_n C dX2_compensates_41 rfl ?_
              refine j_get (v := (ga (some (ad 5)))) C fl_X2_22_2 dX2_compensates_42 (tw_F hinj rfl) ?_
              refine j_iload_n C dX2_compensates_45 rfl ?_
              refine j_iload_n C dX2_compensates_46 rfl ?_
              refine j_bipush (v := (nI 8)) C dX2_compensates_47 (by decide) ?_
              replace hf := gB2_e hf
              obtain ⟨x120, w119, ew119, hf⟩ := hf
              refine j_callS (As := [(gi x78), (gi x79), (gi (nI 8))]) (rest := [(ga (some (ad 5)))]) (v := (some (gi x120))) C (by omega) (kt_X2_at hinj (by omega) ew119) q1801 q1802 q93 q1803 hd_X2_at (by decide) rfl (Nat.le_of_ble_eq_true rfl) dX2_compensates_49 ?_
              refine j_iconst (v := (nI 0)) C dX2_compensates_52 (by decide) ?_
              replace hf := gB1_e hf
              obtain ⟨w121, ew121, hf⟩ := hf
              refine j_iast C (tw_st hinj ew121) dX2_compensates_53 ?_
              refine j_aload_n C dX2_compensates_54 rfl ?_
              refine j_iload_n C dX2_compensates_55 rfl ?_
              refine j_iload_n C dX2_compensates_56 rfl ?_
              replace hf := gB2_e hf
              obtain ⟨_, w122, ew122, hf⟩ := hf
              refine j_callV (As := [(gi x78), (gi x79)]) (rest := []) (v := none) C (by omega) (kt_X2_triesToCompensate hinj (by omega) ew122) (tw_cls hinj) rfl q1884 q1886 qs78 q93 q1887 ⟨rfl, hd_X2_triesToCompensate⟩ (by decide) rfl (Nat.le_of_ble_eq_true rfl) dX2_compensates_57 ?_
              refine j_sub (lv' := [(0, (ga (some (ad 0)))), (1, (gi x78)), (2, (gi x79))]) (gL_cons rfl (gL_cons rfl (gL_cons rfl (gL_nil)))) ?_
              exact jk84 _ _ _ hf
            · replace hf := gIf_f hf c115
              refine j_iconst (v := (nI 1)) C dX2_compensates_26 (by decide) ?_
              obtain ⟨rfl, rfl⟩ := gSome hf
              exact j_zret C hr (by decide) hw dX2_compensates_27
      · replace hf := gIf_t hf c20
        refine j_aload_n C dX2_compensates_108 rfl ?_
        refine j_iload_n C dX2_compensates_109 rfl ?_
        refine j_iload_n C dX2_compensates_110 rfl ?_
        refine j_bipush (v := (nI 6)) C dX2_compensates_111 (by decide) ?_
        refine j_bipush (v := (nI 7)) C dX2_compensates_113 (by decide) ?_
        replace hf := gB2_e hf
        obtain ⟨_, w123, ew123, hf⟩ := hf
        refine j_callV (As := [(gi x6), (gi x7), (gi (nI 6)), (gi (nI 7))]) (rest := []) (v := none) C (by omega) (kt_X2_handles hinj (by omega) ew123) (tw_cls hinj) rfl q1888 q1890 qs79 q93 q1891 ⟨rfl, hd_X2_handles⟩ (by decide) rfl (Nat.le_of_ble_eq_true rfl) dX2_compensates_115 ?_
        refine j_goto (tgt := 0) C dX2_compensates_118 (by decide) ?_
        refine gL2_e (fun (x125 : Int32) (x126 : Int32) (w124 : TS) => gJ D dA A K p l e R s m args below meth c (gEnd D dA A K below args s (twOf wb ad w0) (some (gi rr)) (twOf wb ad ww)) 4 0 [(0, (ga (some (ad 0)))), (1, (gi x125)), (2, (gi x126))] [] (twOf wb ad w124)) ?_ _ _ _ _ hf
        intro k127 jk127 x125 x126 w124 hf
        refine j_aload_n C dX2_compensates_0 rfl ?_
        refine j_get (v := (ga (some (ad 5)))) C fl_X2_22_2 dX2_compensates_1 (tw_F hinj rfl) ?_
        refine j_iload_n C dX2_compensates_4 rfl ?_
        refine j_iload_n C dX2_compensates_5 rfl ?_
        refine j_bipush (v := (nI 7)) C dX2_compensates_6 (by decide) ?_
        replace hf := gB2_e hf
        obtain ⟨x129, w128, ew128, hf⟩ := hf
        refine j_callS (As := [(gi x125), (gi x126), (gi (nI 7))]) (rest := [(ga (some (ad 5)))]) (v := (some (gi x129))) C (by omega) (kt_X2_at hinj (by omega) ew128) q1801 q1802 q93 q1803 hd_X2_at (by decide) rfl (Nat.le_of_ble_eq_true rfl) dX2_compensates_8 ?_
        replace hf := gB1_e hf
        obtain ⟨x130, ex130, hf⟩ := hf
        refine j_iald C (tw_ld hinj ex130) dX2_compensates_11 ?_
        replace hf := gBd_x hf
        obtain ⟨k131, ek131, hf⟩ := hf
        have jk131 : ∀ (x133 : Int32) (x134 : Int32) (w132 : TS), k131 x133 x134 w132 = some (rr, ww) → gJ D dA A K p l e R s m args below meth c (gEnd D dA A K below args s (twOf wb ad w0) (some (gi rr)) (twOf wb ad ww)) 4 60 [(0, (ga (some (ad 0)))), (1, (gi x133)), (2, (gi x134))] [] (twOf wb ad w132) := by
          intro x133 x134 w132 hf
          rw [ek131] at hf
          dsimp only at hf
          refine j_aload_n C dX2_compensates_60 rfl ?_
          refine j_get (v := (ga (some (ad 5)))) C fl_X2_22_2 dX2_compensates_61 (tw_F hinj rfl) ?_
          refine j_iload_n C dX2_compensates_64 rfl ?_
          refine j_iload_n C dX2_compensates_65 rfl ?_
          refine j_bipush (v := (nI 9)) C dX2_compensates_66 (by decide) ?_
          replace hf := gB2_e hf
          obtain ⟨x136, w135, ew135, hf⟩ := hf
          refine j_callS (As := [(gi x133), (gi x134), (gi (nI 9))]) (rest := [(ga (some (ad 5)))]) (v := (some (gi x136))) C (by omega) (kt_X2_at hinj (by omega) ew135) q1801 q1802 q93 q1803 hd_X2_at (by decide) rfl (Nat.le_of_ble_eq_true rfl) dX2_compensates_68 ?_
          replace hf := gB1_e hf
          obtain ⟨x137, ex137, hf⟩ := hf
          refine j_iald C (tw_ld hinj ex137) dX2_compensates_71 ?_
          refine j_aload_n C dX2_compensates_72 rfl ?_
          refine j_get (v := (ga (some (ad 5)))) C fl_X2_22_2 dX2_compensates_73 (tw_F hinj rfl) ?_
          refine j_iconst (v := (nI 0)) C dX2_compensates_76 (by decide) ?_
          replace hf := gB1_e hf
          obtain ⟨x138, ex138, hf⟩ := hf
          refine j_iald C (tw_ld hinj ex138) dX2_compensates_77 ?_
          refine j_icmp_le (tgt := 83) C dX2_compensates_78 (by decide) (fun c139 => ?_) (fun c139 => ?_)
          · replace hf := gIf_t hf c139
            refine j_aload_n C dX2_compensates_83 rfl ?_
            refine j_aload_n C dX2_compensates_84 rfl ?_
            refine j_iload_n C dX2_compensates_85 rfl ?_
            refine j_aload_n C dX2_compensates_86 rfl ?_
            refine j_get (v := (ga (some (ad 5)))) C fl_X2_22_2 dX2_compensates_87 (tw_F hinj rfl) ?_
            refine j_iload_n C dX2_compensates_90 rfl ?_
            refine j_iload_n C dX2_compensates_91 rfl ?_
            refine j_bipush (v := (nI 7)) C dX2_compensates_92 (by decide) ?_
            replace hf := gB2_e hf
            obtain ⟨x141, w140, ew140, hf⟩ := hf
            refine j_callS (As := [(gi x133), (gi x134), (gi (nI 7))]) (rest := [(ga (some (ad 5))), (gi x133), (ga (some (ad 0))), (ga (some (ad 0)))]) (v := (some (gi x141))) C (by omega) (kt_X2_at hinj (by omega) ew140) q1801 q1802 q93 q1803 hd_X2_at (by decide) rfl (Nat.le_of_ble_eq_true rfl) dX2_compensates_94 ?_
            replace hf := gB1_e hf
            obtain ⟨x142, ex142, hf⟩ := hf
            refine j_iald C (tw_ld hinj ex142) dX2_compensates_97 ?_
            refine j_iconst (v := (nI 4)) C dX2_compensates_98 (by decide) ?_
            replace hf := gB2_e hf
            obtain ⟨x144, w143, ew143, hf⟩ := hf
            refine j_callV (As := [(gi x133), (gi x142), (gi (nI 4))]) (rest := [(ga (some (ad 0)))]) (v := (some (gi x144))) C (by omega) (kt_X2_nodePart hinj (by omega) ew143) (tw_cls hinj) rfl q1812 q1814 qs60 q93 q1815 ⟨rfl, hd_X2_nodePart⟩ (by decide) rfl (Nat.le_of_ble_eq_true rfl) dX2_compensates_99 ?_
            replace hf := gB2_e hf
            obtain ⟨x146, w145, ew145, hf⟩ := hf
            refine j_callV (As := [(gi x144)]) (rest := []) (v := (some (gi x146))) C (by omega) (kt_X2_fails hinj (by omega) ew145) (tw_cls hinj) rfl q1840 q1842 qs67 q93 q1843 ⟨rfl, hd_X2_fails⟩ (by decide) rfl (Nat.le_of_ble_eq_true rfl) dX2_compensates_102 ?_
            refine j_if_ne (tgt := 121) C dX2_compensates_105 (by decide) (fun c147 => ?_) (fun c147 => ?_)
            · replace hf := gIf_f hf c147
              refine j_aload_n C dX2_compensates_121 rfl ?_
              refine j_get (v := (ga (some (ad 5)))) C fl_X2_22_2 dX2_compensates_122 (tw_F hinj rfl) ?_
              refine j_iload_n C dX2_compensates_125 rfl ?_
              refine j_iload_n C dX2_compensates_126 rfl ?_
              refine j_bipush (v := (nI 8)) C dX2_compensates_127 (by decide) ?_
              replace hf := gB2_e hf
              obtain ⟨x149, w148, ew148, hf⟩ := hf
              refine j_callS (As := [(gi x133), (gi x134), (gi (nI 8))]) (rest := [(ga (some (ad 5)))]) (v := (some (gi x149))) C (by omega) (kt_X2_at hinj (by omega) ew148) q1801 q1802 q93 q1803 hd_X2_at (by decide) rfl (Nat.le_of_ble_eq_true rfl) dX2_compensates_129 ?_
              refine j_dup2 C dX2_compensates_132 ?_
              replace hf := gB1_e hf
              obtain ⟨x150, ex150, hf⟩ := hf
              refine j_iald C (tw_ld hinj ex150) dX2_compensates_133 ?_
              refine j_iconst (v := (nI 1)) C dX2_compensates_134 (by decide) ?_
              refine j_iadd C dX2_compensates_135 ?_
              replace hf := gB1_e hf
              obtain ⟨w151, ew151, hf⟩ := hf
              refine j_iast C (tw_st hinj ew151) dX2_compensates_136 ?_
              refine j_aload_n C dX2_compensates_137 rfl ?_
              refine j_get (v := (ga (some (ad 5)))) C fl_X2_22_2 dX2_compensates_138 (tw_F hinj rfl) ?_
              refine j_iload_n C dX2_compensates_141 rfl ?_
              refine j_iload_n C dX2_compensates_142 rfl ?_
              refine j_bipush (v := (nI 8)) C dX2_compensates_143 (by decide) ?_
              replace hf := gB2_e hf
              obtain ⟨x153, w152, ew152, hf⟩ := hf
              refine j_callS (As := [(gi x133), (gi x134), (gi (nI 8))]) (rest := [(ga (some (ad 5)))]) (v := (some (gi x153))) C (by omega) (kt_X2_at hinj (by omega) ew152) q1801 q1802 q93 q1803 hd_X2_at (by decide) rfl (Nat.le_of_ble_eq_true rfl) dX2_compensates_145 ?_
              replace hf := gB1_e hf
              obtain ⟨x154, ex154, hf⟩ := hf
              refine j_iald C (tw_ld hinj ex154) dX2_compensates_148 ?_
              refine j_iconst (v := (nI 3)) C dX2_compensates_149 (by decide) ?_
              refine j_icmp_ne (tgt := 166) C dX2_compensates_150 (by decide) (fun c155 => ?_) (fun c155 => ?_)
              · replace hf := gIf_f hf c155
                refine j_aload_n C dX2_compensates_166 rfl ?_
                refine j_iload_n C dX2_compensates_167 rfl ?_
                refine j_iload_n C dX2_compensates_168 rfl ?_
                replace hf := gB2_e hf
                obtain ⟨_, w156, ew156, hf⟩ := hf
                refine j_callV (As := [(gi x133), (gi x134)]) (rest := []) (v := none) C (by omega) (kt_X2_triesToCompensate hinj (by omega) ew156) (tw_cls hinj) rfl q1884 q1886 qs78 q93 q1887 ⟨rfl, hd_X2_triesToCompensate⟩ (by decide) rfl (Nat.le_of_ble_eq_true rfl) dX2_compensates_169 ?_
                refine j_goto (tgt := 0) C dX2_compensates_172 (by decide) ?_
                exact jk127 _ _ _ hf
              · replace hf := gIf_t hf c155
                refine j_aload_n C dX2_compensates_153 rfl ?_
                refine j_iload_n C dX2_compensates_154 rfl ?_
                refine j_iload_n C dX2_compensates_155 rfl ?_
                refine j_bipush (v := (nI 7)) C dX2_compensates_156 (by decide) ?_
                refine j_bipush (v := (nI 8)) C dX2_compensates_158 (by decide) ?_
                replace hf := gB2_e hf
                obtain ⟨_, w157, ew157, hf⟩ := hf
                refine j_callV (As := [(gi x133), (gi x134), (gi (nI 7)), (gi (nI 8))]) (rest := []) (v := none) C (by omega) (kt_X2_handles hinj (by omega) ew157) (tw_cls hinj) rfl q1888 q1890 qs79 q93 q1891 ⟨rfl, hd_X2_handles⟩ (by decide) rfl (Nat.le_of_ble_eq_true rfl) dX2_compensates_160 ?_
                refine j_goto (tgt := 0) C dX2_compensates_163 (by decide) ?_
                exact jk127 _ _ _ hf
            · replace hf := gIf_t hf c147
              refine j_aload_n C dX2_compensates_108 rfl ?_
              refine j_iload_n C dX2_compensates_109 rfl ?_
              refine j_iload_n C dX2_compensates_110 rfl ?_
              refine j_bipush (v := (nI 6)) C dX2_compensates_111 (by decide) ?_
              refine j_bipush (v := (nI 7)) C dX2_compensates_113 (by decide) ?_
              replace hf := gB2_e hf
              obtain ⟨_, w158, ew158, hf⟩ := hf
              refine j_callV (As := [(gi x133), (gi x134), (gi (nI 6)), (gi (nI 7))]) (rest := []) (v := none) C (by omega) (kt_X2_handles hinj (by omega) ew158) (tw_cls hinj) rfl q1888 q1890 qs79 q93 q1891 ⟨rfl, hd_X2_handles⟩ (by decide) rfl (Nat.le_of_ble_eq_true rfl) dX2_compensates_115 ?_
              refine j_goto (tgt := 0) C dX2_compensates_118 (by decide) ?_
              exact jk127 _ _ _ hf
          · replace hf := gIf_f hf c139
            refine j_iconst (v := (nI 0)) C dX2_compensates_81 (by decide) ?_
            obtain ⟨rfl, rfl⟩ := gSome hf
            exact j_zret C hr (by decide) hw dX2_compensates_82
        clear ek131
        refine j_if_ge (tgt := 60) C dX2_compensates_12 (by decide) (fun c159 => ?_) (fun c159 => ?_)
        · replace hf := gIf_t hf c159
          exact jk131 _ _ _ hf
        · replace hf := gIf_f hf c159
          refine j_aload_n C dX2_compensates_15 rfl ?_
          refine j_iload_n C dX2_compensates_16 rfl ?_
          refine j_iload_n C dX2_compensates_17 rfl ?_
          replace hf := gB2_e hf
          obtain ⟨x161, w160, ew160, hf⟩ := hf
          refine j_callV (As := [(gi x125), (gi x126)]) (rest := []) (v := (some (gi x161))) C (by omega) (kt_X2_nextToCompensate hinj (by omega) ew160) (tw_cls hinj) rfl q1876 q1878 qs76 q93 q1879 ⟨rfl, hd_X2_nextToCompensate⟩ (by decide) rfl (Nat.le_of_ble_eq_true rfl) dX2_compensates_18 ?_
          refine j_istore_n (lv' := [(3, (gi x161)), (0, (ga (some (ad 0)))), (1, (gi x125)), (2, (gi x126))]) C dX2_compensates_21 (by decide) rfl ?_
          refine j_iload_n C dX2_compensates_22 rfl ?_
          refine j_if_ge (tgt := 28) C dX2_compensates_23 (by decide) (fun c162 => ?_) (fun c162 => ?_)
          · replace hf := gIf_t hf c162
            refine j_aload_n C dX2_compensates_28 rfl ?_
            refine j_get (v := (ga (some (ad 5)))) C fl_X2_22_2 dX2_compensates_29 (tw_F hinj rfl) ?_
            refine j_iload_n C dX2_compensates_32 rfl ?_
            refine j_iload_n C dX2_compensates_33 rfl ?_
            refine j_bipush (v := (nI 7)) C dX2_compensates_34 (by decide) ?_
            replace hf := gB2_e hf
            obtain ⟨x164, w163, ew163, hf⟩ := hf
            refine j_callS (As := [(gi x125), (gi x126), (gi (nI 7))]) (rest := [(ga (some (ad 5)))]) (v := (some (gi x164))) C (by omega) (kt_X2_at hinj (by omega) ew163) q1801 q1802 q93 q1803 hd_X2_at (by decide) rfl (Nat.le_of_ble_eq_true rfl) dX2_compensates_36 ?_
            refine j_iload_n C dX2_compensates_39 rfl ?_
            replace hf := gB1_e hf
            obtain ⟨w165, ew165, hf⟩ := hf
            refine j_iast C (tw_st hinj ew165) dX2_compensates_40 ?_
            refine j_aload_n C dX2_compensates_41 rfl ?_
            refine j_get (v := (ga (some (ad 5)))) C fl_X2_22_2 dX2_compensates_42 (tw_F hinj rfl) ?_
            refine j_iload_n C dX2_compensates_45 rfl ?_
            refine j_iload_n C dX2_compensates_46 rfl ?_
            refine j_bipush (v := (nI 8)) C dX2_compensates_47 (by decide) ?_
            replace hf := gB2_e hf
            obtain ⟨x167, w166, ew166, hf⟩ := hf
            refine j_callS (As := [(gi x125), (gi x126), (gi (nI 8))]) (rest := [(ga (some (ad 5)))]) (v := (some (gi x167))) C (by omega) (kt_X2_at hinj (by omega) ew166) q1801 q1802 q93 q1803 hd_X2_at (by decide) rfl (Nat.le_of_ble_eq_true rfl) dX2_compensates_49 ?_
            refine j_iconst (v := (nI 0)) C dX2_compensates_52 (by decide) ?_
            replace hf := gB1_e hf
            obtain ⟨w168, ew168, hf⟩ := hf
            refine j_iast C (tw_st hinj ew168) dX2_compensates_53 ?_
            refine j_aload_n C dX2_compensates_54 rfl ?_
            refine j_iload_n C dX2_compensates_55 rfl ?_
            refine j_iload_n C dX2_compensates_56 rfl ?_
            replace hf := gB2_e hf
            obtain ⟨_, w169, ew169, hf⟩ := hf
            refine j_callV (As := [(gi x125), (gi x126)]) (rest := []) (v := none) C (by omega) (kt_X2_triesToCompensate hinj (by omega) ew169) (tw_cls hinj) rfl q1884 q1886 qs78 q93 q1887 ⟨rfl, hd_X2_triesToCompensate⟩ (by decide) rfl (Nat.le_of_ble_eq_true rfl) dX2_compensates_57 ?_
            refine j_sub (lv' := [(0, (ga (some (ad 0)))), (1, (gi x125)), (2, (gi x126))]) (gL_cons rfl (gL_cons rfl (gL_cons rfl (gL_nil)))) ?_
            exact jk131 _ _ _ hf
          · replace hf := gIf_f hf c162
            refine j_iconst (v := (nI 1)) C dX2_compensates_26 (by decide) ?_
            obtain ⟨rfl, rfl⟩ := gSome hf
            exact j_zret C hr (by decide) hw dX2_compensates_27
    · replace hf := gIf_f hf c12
      refine j_iconst (v := (nI 0)) C dX2_compensates_81 (by decide) ?_
      obtain ⟨rfl, rfl⟩ := gSome hf
      exact j_zret C hr (by decide) hw dX2_compensates_82
  clear ek4
  refine j_if_ge (tgt := 60) C dX2_compensates_12 (by decide) (fun c170 => ?_) (fun c170 => ?_)
  · replace hf := gIf_t hf c170
    exact jk4 _ _ _ hf
  · replace hf := gIf_f hf c170
    refine j_aload_n C dX2_compensates_15 rfl ?_
    refine j_iload_n C dX2_compensates_16 rfl ?_
    refine j_iload_n C dX2_compensates_17 rfl ?_
    replace hf := gB2_e hf
    obtain ⟨x172, w171, ew171, hf⟩ := hf
    refine j_callV (As := [(gi p1), (gi p2)]) (rest := []) (v := (some (gi x172))) C (by omega) (kt_X2_nextToCompensate hinj (by omega) ew171) (tw_cls hinj) rfl q1876 q1878 qs76 q93 q1879 ⟨rfl, hd_X2_nextToCompensate⟩ (by decide) rfl (Nat.le_of_ble_eq_true rfl) dX2_compensates_18 ?_
    refine j_istore_n (lv' := [(3, (gi x172)), (0, (ga (some (ad 0)))), (1, (gi p1)), (2, (gi p2))]) C dX2_compensates_21 (by decide) rfl ?_
    refine j_iload_n C dX2_compensates_22 rfl ?_
    refine j_if_ge (tgt := 28) C dX2_compensates_23 (by decide) (fun c173 => ?_) (fun c173 => ?_)
    · replace hf := gIf_t hf c173
      refine j_aload_n C dX2_compensates_28 rfl ?_
      refine j_get (v := (ga (some (ad 5)))) C fl_X2_22_2 dX2_compensates_29 (tw_F hinj rfl) ?_
      refine j_iload_n C dX2_compensates_32 rfl ?_
      refine j_iload_n C dX2_compensates_33 rfl ?_
      refine j_bipush (v := (nI 7)) C dX2_compensates_34 (by decide) ?_
      replace hf := gB2_e hf
      obtain ⟨x175, w174, ew174, hf⟩ := hf
      refine j_callS (As := [(gi p1), (gi p2), (gi (nI 7))]) (rest := [(ga (some (ad 5)))]) (v := (some (gi x175))) C (by omega) (kt_X2_at hinj (by omega) ew174) q1801 q1802 q93 q1803 hd_X2_at (by decide) rfl (Nat.le_of_ble_eq_true rfl) dX2_compensates_36 ?_
      refine j_iload_n C dX2_compensates_39 rfl ?_
      replace hf := gB1_e hf
      obtain ⟨w176, ew176, hf⟩ := hf
      refine j_iast C (tw_st hinj ew176) dX2_compensates_40 ?_
      refine j_aload_n C dX2_compensates_41 rfl ?_
      refine j_get (v := (ga (some (ad 5)))) C fl_X2_22_2 dX2_compensates_42 (tw_F hinj rfl) ?_
      refine j_iload_n C dX2_compensates_45 rfl ?_
      refine j_iload_n C dX2_compensates_46 rfl ?_
      refine j_bipush (v := (nI 8)) C dX2_compensates_47 (by decide) ?_
      replace hf := gB2_e hf
      obtain ⟨x178, w177, ew177, hf⟩ := hf
      refine j_callS (As := [(gi p1), (gi p2), (gi (nI 8))]) (rest := [(ga (some (ad 5)))]) (v := (some (gi x178))) C (by omega) (kt_X2_at hinj (by omega) ew177) q1801 q1802 q93 q1803 hd_X2_at (by decide) rfl (Nat.le_of_ble_eq_true rfl) dX2_compensates_49 ?_
      refine j_iconst (v := (nI 0)) C dX2_compensates_52 (by decide) ?_
      replace hf := gB1_e hf
      obtain ⟨w179, ew179, hf⟩ := hf
      refine j_iast C (tw_st hinj ew179) dX2_compensates_53 ?_
      refine j_aload_n C dX2_compensates_54 rfl ?_
      refine j_iload_n C dX2_compensates_55 rfl ?_
      refine j_iload_n C dX2_compensates_56 rfl ?_
      replace hf := gB2_e hf
      obtain ⟨_, w180, ew180, hf⟩ := hf
      refine j_callV (As := [(gi p1), (gi p2)]) (rest := []) (v := none) C (by omega) (kt_X2_triesToCompensate hinj (by omega) ew180) (tw_cls hinj) rfl q1884 q1886 qs78 q93 q1887 ⟨rfl, hd_X2_triesToCompensate⟩ (by decide) rfl (Nat.le_of_ble_eq_true rfl) dX2_compensates_57 ?_
      refine j_sub (lv' := [(0, (ga (some (ad 0)))), (1, (gi p1)), (2, (gi p2))]) (gL_cons rfl (gL_cons rfl (gL_cons rfl (gL_nil)))) ?_
      exact jk4 _ _ _ hf
    · replace hf := gIf_f hf c173
      refine j_iconst (v := (nI 1)) C dX2_compensates_26 (by decide) ?_
      obtain ⟨rfl, rfl⟩ := gSome hf
      exact j_zret C hr (by decide) hw dX2_compensates_27
def dkwX2_cancels_3 : List UInt8 := [16, 6, 182, 0, 171, 62, 167, 255, 212, 177]
abbrev dktX2_cancels_3 : List UInt8 := dkwX2_cancels_3 ++ []
def dkwX2_cancels_2 : List UInt8 := [54, 4, 21, 4, 4, 159, 0, 9, 21, 4, 8, 160, 0, 9, 42, 27, 29, 182, 0, 208, 42, 27, 29]
abbrev dktX2_cancels_2 : List UInt8 := dkwX2_cancels_2 ++ dktX2_cancels_3
def dkwX2_cancels_1 : List UInt8 := [79, 42, 27, 28, 8, 182, 0, 171, 62, 29, 155, 0, 46, 42, 180, 0, 22, 27, 29, 3, 184, 0, 169, 46]
abbrev dktX2_cancels_1 : List UInt8 := dkwX2_cancels_1 ++ dktX2_cancels_2
def dkwX2_cancels_0 : List UInt8 := [42, 180, 0, 22, 27, 28, 3, 184, 0, 169, 7, 79, 42, 180, 0, 22, 27, 28, 16, 7, 184, 0, 169, 2]
abbrev dktX2_cancels_0 : List UInt8 := dkwX2_cancels_0 ++ dktX2_cancels_1
theorem dksX2_cancels_0 : cX2_cancels.data.toList.drop 0 = dktX2_cancels_0 := by decide +kernel
theorem dksX2_cancels_1 : cX2_cancels.data.toList.drop 24 = dktX2_cancels_1 := dk_seg dksX2_cancels_0 24 rfl rfl
theorem dksX2_cancels_2 : cX2_cancels.data.toList.drop 48 = dktX2_cancels_2 := dk_seg dksX2_cancels_1 24 rfl rfl
theorem dksX2_cancels_3 : cX2_cancels.data.toList.drop 71 = dktX2_cancels_3 := dk_seg dksX2_cancels_2 23 rfl rfl
theorem dX2_cancels_0 : decode cX2_cancels 0 = .ok (.aload_n 0, 1) := dk_42 (dk_at dksX2_cancels_0 0 rfl rfl)
theorem dX2_cancels_1 : decode cX2_cancels 1 = .ok (.getfield 22, 3) := dk_180 0 22 (dk_at dksX2_cancels_0 1 rfl rfl)
theorem dX2_cancels_4 : decode cX2_cancels 4 = .ok (.iload_n 1, 1) := dk_27 (dk_at dksX2_cancels_0 4 rfl rfl)
theorem dX2_cancels_5 : decode cX2_cancels 5 = .ok (.iload_n 2, 1) := dk_28 (dk_at dksX2_cancels_0 5 rfl rfl)
theorem dX2_cancels_6 : decode cX2_cancels 6 = .ok (.iconst 0, 1) := dk_3 (dk_at dksX2_cancels_0 6 rfl rfl)
theorem dX2_cancels_7 : decode cX2_cancels 7 = .ok (.invokestatic 169, 3) := dk_184 0 169 (dk_at dksX2_cancels_0 7 rfl rfl)
theorem dX2_cancels_10 : decode cX2_cancels 10 = .ok (.iconst 4, 1) := dk_7 (dk_at dksX2_cancels_0 10 rfl rfl)
theorem dX2_cancels_11 : decode cX2_cancels 11 = .ok (.iastore, 1) := dk_79 (dk_at dksX2_cancels_0 11 rfl rfl)
theorem dX2_cancels_12 : decode cX2_cancels 12 = .ok (.aload_n 0, 1) := dk_42 (dk_at dksX2_cancels_0 12 rfl rfl)
theorem dX2_cancels_13 : decode cX2_cancels 13 = .ok (.getfield 22, 3) := dk_180 0 22 (dk_at dksX2_cancels_0 13 rfl rfl)
theorem dX2_cancels_16 : decode cX2_cancels 16 = .ok (.iload_n 1, 1) := dk_27 (dk_at dksX2_cancels_0 16 rfl rfl)
theorem dX2_cancels_17 : decode cX2_cancels 17 = .ok (.iload_n 2, 1) := dk_28 (dk_at dksX2_cancels_0 17 rfl rfl)
theorem dX2_cancels_18 : decode cX2_cancels 18 = .ok (.bipush 7, 2) := dk_16 7 (dk_at dksX2_cancels_0 18 rfl rfl)
theorem dX2_cancels_20 : decode cX2_cancels 20 = .ok (.invokestatic 169, 3) := dk_184 0 169 (dk_at dksX2_cancels_0 20 rfl rfl)
theorem dX2_cancels_23 : decode cX2_cancels 23 = .ok (.iconst (-1), 1) := dk_2 (dk_at dksX2_cancels_0 23 rfl rfl)
theorem dX2_cancels_24 : decode cX2_cancels 24 = .ok (.iastore, 1) := dk_79 (dk_at dksX2_cancels_1 0 rfl rfl)
theorem dX2_cancels_25 : decode cX2_cancels 25 = .ok (.aload_n 0, 1) := dk_42 (dk_at dksX2_cancels_1 1 rfl rfl)
theorem dX2_cancels_26 : decode cX2_cancels 26 = .ok (.iload_n 1, 1) := dk_27 (dk_at dksX2_cancels_1 2 rfl rfl)
theorem dX2_cancels_27 : decode cX2_cancels 27 = .ok (.iload_n 2, 1) := dk_28 (dk_at dksX2_cancels_1 3 rfl rfl)
theorem dX2_cancels_28 : decode cX2_cancels 28 = .ok (.iconst 5, 1) := dk_8 (dk_at dksX2_cancels_1 4 rfl rfl)
theorem dX2_cancels_29 : decode cX2_cancels 29 = .ok (.invokevirtual 171, 3) := dk_182 0 171 (dk_at dksX2_cancels_1 5 rfl rfl)
theorem dX2_cancels_32 : decode cX2_cancels 32 = .ok (.istore_n 3, 1) := dk_62 (dk_at dksX2_cancels_1 8 rfl rfl)
theorem dX2_cancels_33 : decode cX2_cancels 33 = .ok (.iload_n 3, 1) := dk_29 (dk_at dksX2_cancels_1 9 rfl rfl)
theorem dX2_cancels_34 : decode cX2_cancels 34 = .ok (.ifCond .lt 46, 3) := dk_155 0 46 (dk_at dksX2_cancels_1 10 rfl rfl)
theorem dX2_cancels_37 : decode cX2_cancels 37 = .ok (.aload_n 0, 1) := dk_42 (dk_at dksX2_cancels_1 13 rfl rfl)
theorem dX2_cancels_38 : decode cX2_cancels 38 = .ok (.getfield 22, 3) := dk_180 0 22 (dk_at dksX2_cancels_1 14 rfl rfl)
theorem dX2_cancels_41 : decode cX2_cancels 41 = .ok (.iload_n 1, 1) := dk_27 (dk_at dksX2_cancels_1 17 rfl rfl)
theorem dX2_cancels_42 : decode cX2_cancels 42 = .ok (.iload_n 3, 1) := dk_29 (dk_at dksX2_cancels_1 18 rfl rfl)
theorem dX2_cancels_43 : decode cX2_cancels 43 = .ok (.iconst 0, 1) := dk_3 (dk_at dksX2_cancels_1 19 rfl rfl)
theorem dX2_cancels_44 : decode cX2_cancels 44 = .ok (.invokestatic 169, 3) := dk_184 0 169 (dk_at dksX2_cancels_1 20 rfl rfl)
theorem dX2_cancels_47 : decode cX2_cancels 47 = .ok (.iaload, 1) := dk_46 (dk_at dksX2_cancels_1 23 rfl rfl)
theorem dX2_cancels_48 : decode cX2_cancels 48 = .ok (.istore 4, 2) := dk_54 4 (dk_at dksX2_cancels_2 0 rfl rfl)
theorem dX2_cancels_50 : decode cX2_cancels 50 = .ok (.iload 4, 2) := dk_21 4 (dk_at dksX2_cancels_2 2 rfl rfl)
theorem dX2_cancels_52 : decode cX2_cancels 52 = .ok (.iconst 1, 1) := dk_4 (dk_at dksX2_cancels_2 4 rfl rfl)
theorem dX2_cancels_53 : decode cX2_cancels 53 = .ok (.if_icmp .eq 9, 3) := dk_159 0 9 (dk_at dksX2_cancels_2 5 rfl rfl)
theorem dX2_cancels_56 : decode cX2_cancels 56 = .ok (.iload 4, 2) := dk_21 4 (dk_at dksX2_cancels_2 8 rfl rfl)
theorem dX2_cancels_58 : decode cX2_cancels 58 = .ok (.iconst 5, 1) := dk_8 (dk_at dksX2_cancels_2 10 rfl rfl)
theorem dX2_cancels_59 : decode cX2_cancels 59 = .ok (.if_icmp .ne 9, 3) := dk_160 0 9 (dk_at dksX2_cancels_2 11 rfl rfl)
theorem dX2_cancels_62 : decode cX2_cancels 62 = .ok (.aload_n 0, 1) := dk_42 (dk_at dksX2_cancels_2 14 rfl rfl)
theorem dX2_cancels_63 : decode cX2_cancels 63 = .ok (.iload_n 1, 1) := dk_27 (dk_at dksX2_cancels_2 15 rfl rfl)
theorem dX2_cancels_64 : decode cX2_cancels 64 = .ok (.iload_n 3, 1) := dk_29 (dk_at dksX2_cancels_2 16 rfl rfl)
theorem dX2_cancels_65 : decode cX2_cancels 65 = .ok (.invokevirtual 208, 3) := dk_182 0 208 (dk_at dksX2_cancels_2 17 rfl rfl)
theorem dX2_cancels_68 : decode cX2_cancels 68 = .ok (.aload_n 0, 1) := dk_42 (dk_at dksX2_cancels_2 20 rfl rfl)
theorem dX2_cancels_69 : decode cX2_cancels 69 = .ok (.iload_n 1, 1) := dk_27 (dk_at dksX2_cancels_2 21 rfl rfl)
theorem dX2_cancels_70 : decode cX2_cancels 70 = .ok (.iload_n 3, 1) := dk_29 (dk_at dksX2_cancels_2 22 rfl rfl)
theorem dX2_cancels_71 : decode cX2_cancels 71 = .ok (.bipush 6, 2) := dk_16 6 (dk_at dksX2_cancels_3 0 rfl rfl)
theorem dX2_cancels_73 : decode cX2_cancels 73 = .ok (.invokevirtual 171, 3) := dk_182 0 171 (dk_at dksX2_cancels_3 2 rfl rfl)
theorem dX2_cancels_76 : decode cX2_cancels 76 = .ok (.istore_n 3, 1) := dk_62 (dk_at dksX2_cancels_3 5 rfl rfl)
theorem dX2_cancels_77 : decode cX2_cancels 77 = .ok (.goto (-44), 3) := dk_167 255 212 (dk_at dksX2_cancels_3 6 rfl rfl)
theorem dX2_cancels_80 : decode cX2_cancels 80 = .ok (.return_, 1) := dk_177 (dk_at dksX2_cancels_3 9 rfl rfl)
theorem hd_X2_cancels : (yX2_cancels.cls ≠ "java/lang/invoke/MethodHandle" ∧ yX2_cancels.cls ≠ "java/lang/invoke/VarHandle" ∧ (parseMethodDescriptor yX2_cancels.desc).map (fun d => d.parameters.length) = some 2) := ⟨by decide +kernel, by decide +kernel, by decide +kernel⟩
def t_X2_cancels_s (rec : Int32 → Int32 → TS → Option (Unit × TS)) (p1 : Int32) (p2 : Int32) (w0 : TS) : Option (Unit × TS) := gB2 (t_X2_at p1 p2 (nI 0) w0) fun x2 w1 => gB1 (tSt w1 5 x2 (nI 4)) fun w3 => gB2 (t_X2_at p1 p2 (nI 7) w3) fun x5 w4 => gB1 (tSt w4 5 x5 (-1)) fun w6 => gB2 (t_X2_nodePart p1 p2 (nI 5) w6) fun x8 w7 => gL2 (fun k12 (x10 : Int32) (x11 : Int32) (w9 : TS) => if x11 < 0 then some ((), w9) else gB2 (t_X2_at x10 x11 (nI 0) w9) fun x15 w14 => gB1 (tLd w14 5 x15) fun x16 => gBd (fun (x19 : Int32) (x20 : Int32) (w18 : TS) => gB2 (t_X2_nodePart x19 x20 (nI 6) w18) fun x22 w21 => k12 x19 x22 w21) fun k17 => gBd (fun (x25 : Int32) (x26 : Int32) (w24 : TS) => gB2 (rec x25 x26 w24) fun _ w27 => k17 x25 x26 w27) fun k23 => if x16 = (nI 1) then k23 x10 x11 w14 else if x16 = (nI 5) then k23 x10 x11 w14 else k17 x10 x11 w14) 20000 p1 x8 w7
set_option maxHeartbeats 4000000 in
set_option maxRecDepth 100000 in
theorem kt_X2_cancels_s {D : va_G} {dA : Nat → ClassId} {A : Nat → Prop} {K : Nat → Nat} {l : Launch} {wb : gw} {ad : Nat → Nat} (hinj : tInj ad) {h : Nat} {rec : Int32 → Int32 → TS → Option (Unit × TS)} {B : Nat} (hrec : ∀ {h : Nat}, B ≤ h → ∀ {p1 : Int32} {p2 : Int32} {w0 ww : TS} {rr : Unit}, rec p1 p2 w0 = some (rr, ww) → gMet D dA A K l yX2_cancels (ws_ yX2_cancels cX2_cancels 5 none) h [(ga (some (ad 0))), (gi p1), (gi p2)] none (twOf wb ad w0) (twOf wb ad ww)) (hb : 3 ≤ B) (hh : B + 1 ≤ h) {p1 : Int32} {p2 : Int32} {w0 ww : TS} {rr : Unit} (hf : t_X2_cancels_s rec p1 p2 w0 = some (rr, ww)) : gMet D dA A K l yX2_cancels (ws_ yX2_cancels cX2_cancels 5 none) h [(ga (some (ad 0))), (gi p1), (gi p2)] none (twOf wb ad w0) (twOf wb ad ww) := by
  refine j_start (own := RX2) (by decide +kernel) rfl (Nat.le_of_ble_eq_true rfl) ?_
  intro p e R s m args below meth c C hr hin hw
  unfold t_X2_cancels_s at hf
  show gJ D dA A K p l e R s m args below meth c (gEnd D dA A K below args s (twOf wb ad w0) none (twOf wb ad ww)) 5 0 [(0, (ga (some (ad 0)))), (1, (gi p1)), (2, (gi p2))] [] (twOf wb ad w0)
  refine j_aload_n C dX2_cancels_0 rfl ?_
  refine j_get (v := (ga (some (ad 5)))) C fl_X2_22_2 dX2_cancels_1 (tw_F hinj rfl) ?_
  refine j_iload_n C dX2_cancels_4 rfl ?_
  refine j_iload_n C dX2_cancels_5 rfl ?_
  refine j_iconst (v := (nI 0)) C dX2_cancels_6 (by decide) ?_
  replace hf := gB2_e hf
  obtain ⟨x2, w1, ew1, hf⟩ := hf
  refine j_callS (As := [(gi p1), (gi p2), (gi (nI 0))]) (rest := [(ga (some (ad 5)))]) (v := (some (gi x2))) C (by omega) (kt_X2_at hinj (by omega) ew1) q1801 q1802 q93 q1803 hd_X2_at (by decide) rfl (Nat.le_of_ble_eq_true rfl) dX2_cancels_7 ?_
  refine j_iconst (v := (nI 4)) C dX2_cancels_10 (by decide) ?_
  replace hf := gB1_e hf
  obtain ⟨w3, ew3, hf⟩ := hf
  refine j_iast C (tw_st hinj ew3) dX2_cancels_11 ?_
  refine j_aload_n C dX2_cancels_12 rfl ?_
  refine j_get (v := (ga (some (ad 5)))) C fl_X2_22_2 dX2_cancels_13 (tw_F hinj rfl) ?_
  refine j_iload_n C dX2_cancels_16 rfl ?_
  refine j_iload_n C dX2_cancels_17 rfl ?_
  refine j_bipush (v := (nI 7)) C dX2_cancels_18 (by decide) ?_
  replace hf := gB2_e hf
  obtain ⟨x5, w4, ew4, hf⟩ := hf
  refine j_callS (As := [(gi p1), (gi p2), (gi (nI 7))]) (rest := [(ga (some (ad 5)))]) (v := (some (gi x5))) C (by omega) (kt_X2_at hinj (by omega) ew4) q1801 q1802 q93 q1803 hd_X2_at (by decide) rfl (Nat.le_of_ble_eq_true rfl) dX2_cancels_20 ?_
  refine j_iconst (v := (-1)) C dX2_cancels_23 (by decide) ?_
  replace hf := gB1_e hf
  obtain ⟨w6, ew6, hf⟩ := hf
  refine j_iast C (tw_st hinj ew6) dX2_cancels_24 ?_
  refine j_aload_n C dX2_cancels_25 rfl ?_
  refine j_iload_n C dX2_cancels_26 rfl ?_
  refine j_iload_n C dX2_cancels_27 rfl ?_
  refine j_iconst (v := (nI 5)) C dX2_cancels_28 (by decide) ?_
  replace hf := gB2_e hf
  obtain ⟨x8, w7, ew7, hf⟩ := hf
  refine j_callV (As := [(gi p1), (gi p2), (gi (nI 5))]) (rest := []) (v := (some (gi x8))) C (by omega) (kt_X2_nodePart hinj (by omega) ew7) (tw_cls hinj) rfl q1812 q1814 qs60 q93 q1815 ⟨rfl, hd_X2_nodePart⟩ (by decide) rfl (Nat.le_of_ble_eq_true rfl) dX2_cancels_29 ?_
  refine j_istore_n (lv' := [(3, (gi x8)), (0, (ga (some (ad 0)))), (1, (gi p1)), (2, (gi p2))]) C dX2_cancels_32 (by decide) rfl ?_
  refine j_sub (lv' := [(0, (ga (some (ad 0)))), (1, (gi p1)), (3, (gi x8))]) (gL_cons rfl (gL_cons rfl (gL_cons rfl (gL_nil)))) ?_
  refine gL2_e (fun (x10 : Int32) (x11 : Int32) (w9 : TS) => gJ D dA A K p l e R s m args below meth c (gEnd D dA A K below args s (twOf wb ad w0) none (twOf wb ad ww)) 5 33 [(0, (ga (some (ad 0)))), (1, (gi x10)), (3, (gi x11))] [] (twOf wb ad w9)) ?_ _ _ _ _ hf
  intro k12 jk12 x10 x11 w9 hf
  refine j_iload_n C dX2_cancels_33 rfl ?_
  refine j_if_lt (tgt := 80) C dX2_cancels_34 (by decide) (fun c13 => ?_) (fun c13 => ?_)
  · replace hf := gIf_t hf c13
    obtain ⟨rfl, rfl⟩ := gSome hf
    exact j_vret C hr hw dX2_cancels_80
  · replace hf := gIf_f hf c13
    refine j_aload_n C dX2_cancels_37 rfl ?_
    refine j_get (v := (ga (some (ad 5)))) C fl_X2_22_2 dX2_cancels_38 (tw_F hinj rfl) ?_
    refine j_iload_n C dX2_cancels_41 rfl ?_
    refine j_iload_n C dX2_cancels_42 rfl ?_
    refine j_iconst (v := (nI 0)) C dX2_cancels_43 (by decide) ?_
    replace hf := gB2_e hf
    obtain ⟨x15, w14, ew14, hf⟩ := hf
    refine j_callS (As := [(gi x10), (gi x11), (gi (nI 0))]) (rest := [(ga (some (ad 5)))]) (v := (some (gi x15))) C (by omega) (kt_X2_at hinj (by omega) ew14) q1801 q1802 q93 q1803 hd_X2_at (by decide) rfl (Nat.le_of_ble_eq_true rfl) dX2_cancels_44 ?_
    replace hf := gB1_e hf
    obtain ⟨x16, ex16, hf⟩ := hf
    refine j_iald C (tw_ld hinj ex16) dX2_cancels_47 ?_
    refine j_istore (lv' := [(4, (gi x16)), (0, (ga (some (ad 0)))), (1, (gi x10)), (3, (gi x11))]) C dX2_cancels_48 (by decide) rfl ?_
    refine j_iload C dX2_cancels_50 rfl ?_
    refine j_iconst (v := (nI 1)) C dX2_cancels_52 (by decide) ?_
    replace hf := gBd_x hf
    obtain ⟨k17, ek17, hf⟩ := hf
    have jk17 : ∀ (x19 : Int32) (x20 : Int32) (w18 : TS), k17 x19 x20 w18 = some (rr, ww) → gJ D dA A K p l e R s m args below meth c (gEnd D dA A K below args s (twOf wb ad w0) none (twOf wb ad ww)) 5 68 [(0, (ga (some (ad 0)))), (1, (gi x19)), (3, (gi x20))] [] (twOf wb ad w18) := by
      intro x19 x20 w18 hf
      rw [ek17] at hf
      dsimp only at hf
      refine j_aload_n C dX2_cancels_68 rfl ?_
      refine j_iload_n C dX2_cancels_69 rfl ?_
      refine j_iload_n C dX2_cancels_70 rfl ?_
      refine j_bipush (v := (nI 6)) C dX2_cancels_71 (by decide) ?_
      replace hf := gB2_e hf
      obtain ⟨x22, w21, ew21, hf⟩ := hf
      refine j_callV (As := [(gi x19), (gi x20), (gi (nI 6))]) (rest := []) (v := (some (gi x22))) C (by omega) (kt_X2_nodePart hinj (by omega) ew21) (tw_cls hinj) rfl q1812 q1814 qs60 q93 q1815 ⟨rfl, hd_X2_nodePart⟩ (by decide) rfl (Nat.le_of_ble_eq_true rfl) dX2_cancels_73 ?_
      refine j_istore_n (lv' := [(3, (gi x22)), (0, (ga (some (ad 0)))), (1, (gi x19))]) C dX2_cancels_76 (by decide) rfl ?_
      refine j_goto (tgt := 33) C dX2_cancels_77 (by decide) ?_
      refine j_sub (lv' := [(0, (ga (some (ad 0)))), (1, (gi x19)), (3, (gi x22))]) (gL_cons rfl (gL_cons rfl (gL_cons rfl (gL_nil)))) ?_
      exact jk12 _ _ _ hf
    clear ek17
    replace hf := gBd_x hf
    obtain ⟨k23, ek23, hf⟩ := hf
    have jk23 : ∀ (x25 : Int32) (x26 : Int32) (w24 : TS), k23 x25 x26 w24 = some (rr, ww) → gJ D dA A K p l e R s m args below meth c (gEnd D dA A K below args s (twOf wb ad w0) none (twOf wb ad ww)) 5 62 [(0, (ga (some (ad 0)))), (1, (gi x25)), (3, (gi x26))] [] (twOf wb ad w24) := by
      intro x25 x26 w24 hf
      rw [ek23] at hf
      dsimp only at hf
      refine j_aload_n C dX2_cancels_62 rfl ?_
      refine j_iload_n C dX2_cancels_63 rfl ?_
      refine j_iload_n C dX2_cancels_64 rfl ?_
      replace hf := gB2_e hf
      obtain ⟨_, w27, ew27, hf⟩ := hf
      refine j_callV (As := [(gi x25), (gi x26)]) (rest := []) (v := none) C (by omega) (hrec (by omega) ew27) (tw_cls hinj) rfl q1868 q1870 qs74 q93 q1871 ⟨rfl, hd_X2_cancels⟩ (by decide) rfl (Nat.le_of_ble_eq_true rfl) dX2_cancels_65 ?_
      exact jk17 _ _ _ hf
    clear ek23
    refine j_icmp_eq (tgt := 62) C dX2_cancels_53 (by decide) (fun c28 => ?_) (fun c28 => ?_)
    · replace hf := gIf_t hf c28
      refine j_sub (lv' := [(0, (ga (some (ad 0)))), (1, (gi x10)), (3, (gi x11))]) (gL_cons rfl (gL_cons rfl (gL_cons rfl (gL_nil)))) ?_
      exact jk23 _ _ _ hf
    · replace hf := gIf_f hf c28
      refine j_iload C dX2_cancels_56 rfl ?_
      refine j_iconst (v := (nI 5)) C dX2_cancels_58 (by decide) ?_
      refine j_icmp_ne (tgt := 68) C dX2_cancels_59 (by decide) (fun c29 => ?_) (fun c29 => ?_)
      · replace hf := gIf_f hf c29
        refine j_sub (lv' := [(0, (ga (some (ad 0)))), (1, (gi x10)), (3, (gi x11))]) (gL_cons rfl (gL_cons rfl (gL_cons rfl (gL_nil)))) ?_
        exact jk17 _ _ _ hf
      · replace hf := gIf_t hf c29
        refine j_sub (lv' := [(0, (ga (some (ad 0)))), (1, (gi x10)), (3, (gi x11))]) (gL_cons rfl (gL_cons rfl (gL_cons rfl (gL_nil)))) ?_
        exact jk23 _ _ _ hf
def t_X2_cancels : Nat → Int32 → Int32 → TS → Option (Unit × TS)
  | 0 => fun _ _ _ => none
  | d + 1 => t_X2_cancels_s (t_X2_cancels d)
theorem kt_X2_cancels {D : va_G} {dA : Nat → ClassId} {A : Nat → Prop} {K : Nat → Nat} {l : Launch} {wb : gw} {ad : Nat → Nat} (hinj : tInj ad) : ∀ (d : Nat) {h : Nat}, 3 + 1 * d ≤ h → ∀ {p1 : Int32} {p2 : Int32} {w0 ww : TS} {rr : Unit}, t_X2_cancels d p1 p2 w0 = some (rr, ww) → gMet D dA A K l yX2_cancels (ws_ yX2_cancels cX2_cancels 5 none) h [(ga (some (ad 0))), (gi p1), (gi p2)] none (twOf wb ad w0) (twOf wb ad ww) := by
  intro d
  induction d with
  | zero => intro h hh p1 p2 w0 ww rr hf; cases hf
  | succ d ih =>
    intro h hh p1 p2 w0 ww rr hf
    exact kt_X2_cancels_s hinj (rec := t_X2_cancels d) (B := 3 + 1 * d) (fun hh => ih hh) (by omega) (by omega) hf
def dkwX2_cancelsBodies_2 : List UInt8 := [132, 3, 1, 42, 27, 21, 4, 16, 6, 182, 0, 171, 54, 4, 167, 255, 206, 177]
abbrev dktX2_cancelsBodies_2 : List UInt8 := dkwX2_cancelsBodies_2 ++ []
def dkwX2_cancelsBodies_1 : List UInt8 := [184, 0, 169, 46, 4, 160, 0, 18, 42, 27, 21, 4, 182, 0, 208, 42, 27, 16, 10, 29, 182, 0, 174]
abbrev dktX2_cancelsBodies_1 : List UInt8 := dkwX2_cancelsBodies_1 ++ dktX2_cancelsBodies_2
def dkwX2_cancelsBodies_0 : List UInt8 := [3, 62, 42, 27, 28, 8, 182, 0, 171, 54, 4, 21, 4, 155, 0, 51, 42, 180, 0, 22, 27, 21, 4, 3]
abbrev dktX2_cancelsBodies_0 : List UInt8 := dkwX2_cancelsBodies_0 ++ dktX2_cancelsBodies_1
theorem dksX2_cancelsBodies_0 : cX2_cancelsBodies.data.toList.drop 0 = dktX2_cancelsBodies_0 := by decide +kernel
theorem dksX2_cancelsBodies_1 : cX2_cancelsBodies.data.toList.drop 24 = dktX2_cancelsBodies_1 := dk_seg dksX2_cancelsBodies_0 24 rfl rfl
theorem dksX2_cancelsBodies_2 : cX2_cancelsBodies.data.toList.drop 47 = dktX2_cancelsBodies_2 := dk_seg dksX2_cancelsBodies_1 23 rfl rfl
theorem dX2_cancelsBodies_0 : decode cX2_cancelsBodies 0 = .ok (.iconst 0, 1) := dk_3 (dk_at dksX2_cancelsBodies_0 0 rfl rfl)
theorem dX2_cancelsBodies_1 : decode cX2_cancelsBodies 1 = .ok (.istore_n 3, 1) := dk_62 (dk_at dksX2_cancelsBodies_0 1 rfl rfl)
theorem dX2_cancelsBodies_2 : decode cX2_cancelsBodies 2 = .ok (.aload_n 0, 1) := dk_42 (dk_at dksX2_cancelsBodies_0 2 rfl rfl)
theorem dX2_cancelsBodies_3 : decode cX2_cancelsBodies 3 = .ok (.iload_n 1, 1) := dk_27 (dk_at dksX2_cancelsBodies_0 3 rfl rfl)
theorem dX2_cancelsBodies_4 : decode cX2_cancelsBodies 4 = .ok (.iload_n 2, 1) := dk_28 (dk_at dksX2_cancelsBodies_0 4 rfl rfl)
theorem dX2_cancelsBodies_5 : decode cX2_cancelsBodies 5 = .ok (.iconst 5, 1) := dk_8 (dk_at dksX2_cancelsBodies_0 5 rfl rfl)
theorem dX2_cancelsBodies_6 : decode cX2_cancelsBodies 6 = .ok (.invokevirtual 171, 3) := dk_182 0 171 (dk_at dksX2_cancelsBodies_0 6 rfl rfl)
theorem dX2_cancelsBodies_9 : decode cX2_cancelsBodies 9 = .ok (.istore 4, 2) := dk_54 4 (dk_at dksX2_cancelsBodies_0 9 rfl rfl)
theorem dX2_cancelsBodies_11 : decode cX2_cancelsBodies 11 = .ok (.iload 4, 2) := dk_21 4 (dk_at dksX2_cancelsBodies_0 11 rfl rfl)
theorem dX2_cancelsBodies_13 : decode cX2_cancelsBodies 13 = .ok (.ifCond .lt 51, 3) := dk_155 0 51 (dk_at dksX2_cancelsBodies_0 13 rfl rfl)
theorem dX2_cancelsBodies_16 : decode cX2_cancelsBodies 16 = .ok (.aload_n 0, 1) := dk_42 (dk_at dksX2_cancelsBodies_0 16 rfl rfl)
theorem dX2_cancelsBodies_17 : decode cX2_cancelsBodies 17 = .ok (.getfield 22, 3) := dk_180 0 22 (dk_at dksX2_cancelsBodies_0 17 rfl rfl)
theorem dX2_cancelsBodies_20 : decode cX2_cancelsBodies 20 = .ok (.iload_n 1, 1) := dk_27 (dk_at dksX2_cancelsBodies_0 20 rfl rfl)
theorem dX2_cancelsBodies_21 : decode cX2_cancelsBodies 21 = .ok (.iload 4, 2) := dk_21 4 (dk_at dksX2_cancelsBodies_0 21 rfl rfl)
theorem dX2_cancelsBodies_23 : decode cX2_cancelsBodies 23 = .ok (.iconst 0, 1) := dk_3 (dk_at dksX2_cancelsBodies_0 23 rfl rfl)
theorem dX2_cancelsBodies_24 : decode cX2_cancelsBodies 24 = .ok (.invokestatic 169, 3) := dk_184 0 169 (dk_at dksX2_cancelsBodies_1 0 rfl rfl)
theorem dX2_cancelsBodies_27 : decode cX2_cancelsBodies 27 = .ok (.iaload, 1) := dk_46 (dk_at dksX2_cancelsBodies_1 3 rfl rfl)
theorem dX2_cancelsBodies_28 : decode cX2_cancelsBodies 28 = .ok (.iconst 1, 1) := dk_4 (dk_at dksX2_cancelsBodies_1 4 rfl rfl)
theorem dX2_cancelsBodies_29 : decode cX2_cancelsBodies 29 = .ok (.if_icmp .ne 18, 3) := dk_160 0 18 (dk_at dksX2_cancelsBodies_1 5 rfl rfl)
theorem dX2_cancelsBodies_32 : decode cX2_cancelsBodies 32 = .ok (.aload_n 0, 1) := dk_42 (dk_at dksX2_cancelsBodies_1 8 rfl rfl)
theorem dX2_cancelsBodies_33 : decode cX2_cancelsBodies 33 = .ok (.iload_n 1, 1) := dk_27 (dk_at dksX2_cancelsBodies_1 9 rfl rfl)
theorem dX2_cancelsBodies_34 : decode cX2_cancelsBodies 34 = .ok (.iload 4, 2) := dk_21 4 (dk_at dksX2_cancelsBodies_1 10 rfl rfl)
theorem dX2_cancelsBodies_36 : decode cX2_cancelsBodies 36 = .ok (.invokevirtual 208, 3) := dk_182 0 208 (dk_at dksX2_cancelsBodies_1 12 rfl rfl)
theorem dX2_cancelsBodies_39 : decode cX2_cancelsBodies 39 = .ok (.aload_n 0, 1) := dk_42 (dk_at dksX2_cancelsBodies_1 15 rfl rfl)
theorem dX2_cancelsBodies_40 : decode cX2_cancelsBodies 40 = .ok (.iload_n 1, 1) := dk_27 (dk_at dksX2_cancelsBodies_1 16 rfl rfl)
theorem dX2_cancelsBodies_41 : decode cX2_cancelsBodies 41 = .ok (.bipush 10, 2) := dk_16 10 (dk_at dksX2_cancelsBodies_1 17 rfl rfl)
theorem dX2_cancelsBodies_43 : decode cX2_cancelsBodies 43 = .ok (.iload_n 3, 1) := dk_29 (dk_at dksX2_cancelsBodies_1 19 rfl rfl)
theorem dX2_cancelsBodies_44 : decode cX2_cancelsBodies 44 = .ok (.invokevirtual 174, 3) := dk_182 0 174 (dk_at dksX2_cancelsBodies_1 20 rfl rfl)
theorem dX2_cancelsBodies_47 : decode cX2_cancelsBodies 47 = .ok (.iinc 3 1, 3) := dk_132 3 1 (dk_at dksX2_cancelsBodies_2 0 rfl rfl)
theorem dX2_cancelsBodies_50 : decode cX2_cancelsBodies 50 = .ok (.aload_n 0, 1) := dk_42 (dk_at dksX2_cancelsBodies_2 3 rfl rfl)
theorem dX2_cancelsBodies_51 : decode cX2_cancelsBodies 51 = .ok (.iload_n 1, 1) := dk_27 (dk_at dksX2_cancelsBodies_2 4 rfl rfl)
theorem dX2_cancelsBodies_52 : decode cX2_cancelsBodies 52 = .ok (.iload 4, 2) := dk_21 4 (dk_at dksX2_cancelsBodies_2 5 rfl rfl)
theorem dX2_cancelsBodies_54 : decode cX2_cancelsBodies 54 = .ok (.bipush 6, 2) := dk_16 6 (dk_at dksX2_cancelsBodies_2 7 rfl rfl)
theorem dX2_cancelsBodies_56 : decode cX2_cancelsBodies 56 = .ok (.invokevirtual 171, 3) := dk_182 0 171 (dk_at dksX2_cancelsBodies_2 9 rfl rfl)
theorem dX2_cancelsBodies_59 : decode cX2_cancelsBodies 59 = .ok (.istore 4, 2) := dk_54 4 (dk_at dksX2_cancelsBodies_2 12 rfl rfl)
theorem dX2_cancelsBodies_61 : decode cX2_cancelsBodies 61 = .ok (.goto (-50), 3) := dk_167 255 206 (dk_at dksX2_cancelsBodies_2 14 rfl rfl)
theorem dX2_cancelsBodies_64 : decode cX2_cancelsBodies 64 = .ok (.return_, 1) := dk_177 (dk_at dksX2_cancelsBodies_2 17 rfl rfl)
def t_X2_cancelsBodies (p1 : Int32) (p2 : Int32) (w0 : TS) : Option (Unit × TS) := gB2 (t_X2_nodePart p1 p2 (nI 5) w0) fun x2 w1 => gL3 (fun k7 (x4 : Int32) (x5 : Int32) (x6 : Int32) (w3 : TS) => if x6 < 0 then some ((), w3) else gB2 (t_X2_at x4 x6 (nI 0) w3) fun x10 w9 => gB1 (tLd w9 5 x10) fun x11 => gBd (fun (x14 : Int32) (x15 : Int32) (x16 : Int32) (w13 : TS) => gBd (x15 + (nI 1)) fun x17 => gB2 (t_X2_nodePart x14 x16 (nI 6) w13) fun x19 w18 => k7 x14 x17 x19 w18) fun k12 => if x11 = (nI 1) then gB2 (t_X2_cancels 12 x4 x6 w9) fun _ w21 => gB2 (t_X2_notes x4 (nI 10) x5 w21) fun _ w22 => k12 x4 x5 x6 w22 else k12 x4 x5 x6 w9) 20000 p1 (nI 0) x2 w1
set_option maxHeartbeats 4000000 in
set_option maxRecDepth 100000 in
theorem kt_X2_cancelsBodies {D : va_G} {dA : Nat → ClassId} {A : Nat → Prop} {K : Nat → Nat} {l : Launch} {wb : gw} {ad : Nat → Nat} (hinj : tInj ad) {h : Nat} (hh : 16 ≤ h) {p1 : Int32} {p2 : Int32} {w0 ww : TS} {rr : Unit} (hf : t_X2_cancelsBodies p1 p2 w0 = some (rr, ww)) : gMet D dA A K l yX2_cancelsBodies (ws_ yX2_cancelsBodies cX2_cancelsBodies 5 none) h [(ga (some (ad 0))), (gi p1), (gi p2)] none (twOf wb ad w0) (twOf wb ad ww) := by
  refine j_start (own := RX2) (by decide +kernel) rfl (Nat.le_of_ble_eq_true rfl) ?_
  intro p e R s m args below meth c C hr hin hw
  unfold t_X2_cancelsBodies at hf
  show gJ D dA A K p l e R s m args below meth c (gEnd D dA A K below args s (twOf wb ad w0) none (twOf wb ad ww)) 5 0 [(0, (ga (some (ad 0)))), (1, (gi p1)), (2, (gi p2))] [] (twOf wb ad w0)
  refine j_iconst (v := (nI 0)) C dX2_cancelsBodies_0 (by decide) ?_
  refine j_istore_n (lv' := [(3, (gi (nI 0))), (0, (ga (some (ad 0)))), (1, (gi p1)), (2, (gi p2))]) C dX2_cancelsBodies_1 (by decide) rfl ?_
  refine j_aload_n C dX2_cancelsBodies_2 rfl ?_
  refine j_iload_n C dX2_cancelsBodies_3 rfl ?_
  refine j_iload_n C dX2_cancelsBodies_4 rfl ?_
  refine j_iconst (v := (nI 5)) C dX2_cancelsBodies_5 (by decide) ?_
  replace hf := gB2_e hf
  obtain ⟨x2, w1, ew1, hf⟩ := hf
  refine j_callV (As := [(gi p1), (gi p2), (gi (nI 5))]) (rest := []) (v := (some (gi x2))) C (by omega) (kt_X2_nodePart hinj (by omega) ew1) (tw_cls hinj) rfl q1812 q1814 qs60 q93 q1815 ⟨rfl, hd_X2_nodePart⟩ (by decide) rfl (Nat.le_of_ble_eq_true rfl) dX2_cancelsBodies_6 ?_
  refine j_istore (lv' := [(4, (gi x2)), (3, (gi (nI 0))), (0, (ga (some (ad 0)))), (1, (gi p1)), (2, (gi p2))]) C dX2_cancelsBodies_9 (by decide) rfl ?_
  refine j_sub (lv' := [(0, (ga (some (ad 0)))), (1, (gi p1)), (3, (gi (nI 0))), (4, (gi x2))]) (gL_cons rfl (gL_cons rfl (gL_cons rfl (gL_cons rfl (gL_nil))))) ?_
  refine gL3_e (fun (x4 : Int32) (x5 : Int32) (x6 : Int32) (w3 : TS) => gJ D dA A K p l e R s m args below meth c (gEnd D dA A K below args s (twOf wb ad w0) none (twOf wb ad ww)) 5 11 [(0, (ga (some (ad 0)))), (1, (gi x4)), (3, (gi x5)), (4, (gi x6))] [] (twOf wb ad w3)) ?_ _ _ _ _ _ hf
  intro k7 jk7 x4 x5 x6 w3 hf
  refine j_iload C dX2_cancelsBodies_11 rfl ?_
  refine j_if_lt (tgt := 64) C dX2_cancelsBodies_13 (by decide) (fun c8 => ?_) (fun c8 => ?_)
  · replace hf := gIf_t hf c8
    obtain ⟨rfl, rfl⟩ := gSome hf
    exact j_vret C hr hw dX2_cancelsBodies_64
  · replace hf := gIf_f hf c8
    refine j_aload_n C dX2_cancelsBodies_16 rfl ?_
    refine j_get (v := (ga (some (ad 5)))) C fl_X2_22_2 dX2_cancelsBodies_17 (tw_F hinj rfl) ?_
    refine j_iload_n C dX2_cancelsBodies_20 rfl ?_
    refine j_iload C dX2_cancelsBodies_21 rfl ?_
    refine j_iconst (v := (nI 0)) C dX2_cancelsBodies_23 (by decide) ?_
    replace hf := gB2_e hf
    obtain ⟨x10, w9, ew9, hf⟩ := hf
    refine j_callS (As := [(gi x4), (gi x6), (gi (nI 0))]) (rest := [(ga (some (ad 5)))]) (v := (some (gi x10))) C (by omega) (kt_X2_at hinj (by omega) ew9) q1801 q1802 q93 q1803 hd_X2_at (by decide) rfl (Nat.le_of_ble_eq_true rfl) dX2_cancelsBodies_24 ?_
    replace hf := gB1_e hf
    obtain ⟨x11, ex11, hf⟩ := hf
    refine j_iald C (tw_ld hinj ex11) dX2_cancelsBodies_27 ?_
    refine j_iconst (v := (nI 1)) C dX2_cancelsBodies_28 (by decide) ?_
    replace hf := gBd_x hf
    obtain ⟨k12, ek12, hf⟩ := hf
    have jk12 : ∀ (x14 : Int32) (x15 : Int32) (x16 : Int32) (w13 : TS), k12 x14 x15 x16 w13 = some (rr, ww) → gJ D dA A K p l e R s m args below meth c (gEnd D dA A K below args s (twOf wb ad w0) none (twOf wb ad ww)) 5 47 [(0, (ga (some (ad 0)))), (1, (gi x14)), (3, (gi x15)), (4, (gi x16))] [] (twOf wb ad w13) := by
      intro x14 x15 x16 w13 hf
      rw [ek12] at hf
      dsimp only at hf
      replace hf := gBd_x hf
      obtain ⟨x17, ex17, hf⟩ := hf
      refine j_iinc (v := x17) (lv' := [(3, (gi x17)), (0, (ga (some (ad 0)))), (1, (gi x14)), (4, (gi x16))]) C dX2_cancelsBodies_47 rfl (by rw [ex17]; rfl) (by decide) rfl ?_
      refine j_aload_n C dX2_cancelsBodies_50 rfl ?_
      refine j_iload_n C dX2_cancelsBodies_51 rfl ?_
      refine j_iload C dX2_cancelsBodies_52 rfl ?_
      refine j_bipush (v := (nI 6)) C dX2_cancelsBodies_54 (by decide) ?_
      replace hf := gB2_e hf
      obtain ⟨x19, w18, ew18, hf⟩ := hf
      refine j_callV (As := [(gi x14), (gi x16), (gi (nI 6))]) (rest := []) (v := (some (gi x19))) C (by omega) (kt_X2_nodePart hinj (by omega) ew18) (tw_cls hinj) rfl q1812 q1814 qs60 q93 q1815 ⟨rfl, hd_X2_nodePart⟩ (by decide) rfl (Nat.le_of_ble_eq_true rfl) dX2_cancelsBodies_56 ?_
      refine j_istore (lv' := [(4, (gi x19)), (3, (gi x17)), (0, (ga (some (ad 0)))), (1, (gi x14))]) C dX2_cancelsBodies_59 (by decide) rfl ?_
      refine j_goto (tgt := 11) C dX2_cancelsBodies_61 (by decide) ?_
      refine j_sub (lv' := [(0, (ga (some (ad 0)))), (1, (gi x14)), (3, (gi x17)), (4, (gi x19))]) (gL_cons rfl (gL_cons rfl (gL_cons rfl (gL_cons rfl (gL_nil))))) ?_
      exact jk7 _ _ _ _ hf
    clear ek12
    refine j_icmp_ne (tgt := 47) C dX2_cancelsBodies_29 (by decide) (fun c20 => ?_) (fun c20 => ?_)
    · replace hf := gIf_f hf c20
      exact jk12 _ _ _ _ hf
    · replace hf := gIf_t hf c20
      refine j_aload_n C dX2_cancelsBodies_32 rfl ?_
      refine j_iload_n C dX2_cancelsBodies_33 rfl ?_
      refine j_iload C dX2_cancelsBodies_34 rfl ?_
      replace hf := gB2_e hf
      obtain ⟨_, w21, ew21, hf⟩ := hf
      refine j_callV (As := [(gi x4), (gi x6)]) (rest := []) (v := none) C (by omega) (kt_X2_cancels hinj 12 (by omega) ew21) (tw_cls hinj) rfl q1868 q1870 qs74 q93 q1871 ⟨rfl, hd_X2_cancels⟩ (by decide) rfl (Nat.le_of_ble_eq_true rfl) dX2_cancelsBodies_36 ?_
      refine j_aload_n C dX2_cancelsBodies_39 rfl ?_
      refine j_iload_n C dX2_cancelsBodies_40 rfl ?_
      refine j_bipush (v := (nI 10)) C dX2_cancelsBodies_41 (by decide) ?_
      refine j_iload_n C dX2_cancelsBodies_43 rfl ?_
      replace hf := gB2_e hf
      obtain ⟨_, w22, ew22, hf⟩ := hf
      refine j_callV (As := [(gi x4), (gi (nI 10)), (gi x5)]) (rest := []) (v := none) C (by omega) (kt_X2_notes hinj (by omega) ew22) (tw_cls hinj) rfl q1828 q1830 qs64 q93 q1831 ⟨rfl, hd_X2_notes⟩ (by decide) rfl (Nat.le_of_ble_eq_true rfl) dX2_cancelsBodies_44 ?_
      exact jk12 _ _ _ _ hf
