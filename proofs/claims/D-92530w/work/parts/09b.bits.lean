set_option maxRecDepth 100000
theorem dJ7_bitCount_0 : decode cJ7_bitCount 0 = .ok (.iload_n 0, 1) := by decide +kernel
theorem dJ7_bitCount_1 : decode cJ7_bitCount 1 = .ok (.iload_n 0, 1) := by decide +kernel
theorem dJ7_bitCount_2 : decode cJ7_bitCount 2 = .ok (.iconst 1, 1) := by decide +kernel
theorem dJ7_bitCount_3 : decode cJ7_bitCount 3 = .ok (.iushr, 1) := by decide +kernel
theorem dJ7_bitCount_4 : decode cJ7_bitCount 4 = .ok (.ldc_w 265, 3) := by decide +kernel
theorem dJ7_bitCount_7 : decode cJ7_bitCount 7 = .ok (.iand, 1) := by decide +kernel
theorem dJ7_bitCount_8 : decode cJ7_bitCount 8 = .ok (.isub, 1) := by decide +kernel
theorem dJ7_bitCount_9 : decode cJ7_bitCount 9 = .ok (.istore_n 0, 1) := by decide +kernel
theorem dJ7_bitCount_10 : decode cJ7_bitCount 10 = .ok (.iload_n 0, 1) := by decide +kernel
theorem dJ7_bitCount_11 : decode cJ7_bitCount 11 = .ok (.ldc_w 266, 3) := by decide +kernel
theorem dJ7_bitCount_14 : decode cJ7_bitCount 14 = .ok (.iand, 1) := by decide +kernel
theorem dJ7_bitCount_15 : decode cJ7_bitCount 15 = .ok (.iload_n 0, 1) := by decide +kernel
theorem dJ7_bitCount_16 : decode cJ7_bitCount 16 = .ok (.iconst 2, 1) := by decide +kernel
theorem dJ7_bitCount_17 : decode cJ7_bitCount 17 = .ok (.iushr, 1) := by decide +kernel
theorem dJ7_bitCount_18 : decode cJ7_bitCount 18 = .ok (.ldc_w 266, 3) := by decide +kernel
theorem dJ7_bitCount_21 : decode cJ7_bitCount 21 = .ok (.iand, 1) := by decide +kernel
theorem dJ7_bitCount_22 : decode cJ7_bitCount 22 = .ok (.iadd, 1) := by decide +kernel
theorem dJ7_bitCount_23 : decode cJ7_bitCount 23 = .ok (.istore_n 0, 1) := by decide +kernel
theorem dJ7_bitCount_24 : decode cJ7_bitCount 24 = .ok (.iload_n 0, 1) := by decide +kernel
theorem dJ7_bitCount_25 : decode cJ7_bitCount 25 = .ok (.iload_n 0, 1) := by decide +kernel
theorem dJ7_bitCount_26 : decode cJ7_bitCount 26 = .ok (.iconst 4, 1) := by decide +kernel
theorem dJ7_bitCount_27 : decode cJ7_bitCount 27 = .ok (.iushr, 1) := by decide +kernel
theorem dJ7_bitCount_28 : decode cJ7_bitCount 28 = .ok (.iadd, 1) := by decide +kernel
theorem dJ7_bitCount_29 : decode cJ7_bitCount 29 = .ok (.ldc_w 267, 3) := by decide +kernel
theorem dJ7_bitCount_32 : decode cJ7_bitCount 32 = .ok (.iand, 1) := by decide +kernel
theorem dJ7_bitCount_33 : decode cJ7_bitCount 33 = .ok (.istore_n 0, 1) := by decide +kernel
theorem dJ7_bitCount_34 : decode cJ7_bitCount 34 = .ok (.iload_n 0, 1) := by decide +kernel
theorem dJ7_bitCount_35 : decode cJ7_bitCount 35 = .ok (.iload_n 0, 1) := by decide +kernel
theorem dJ7_bitCount_36 : decode cJ7_bitCount 36 = .ok (.bipush 8, 2) := by decide +kernel
theorem dJ7_bitCount_38 : decode cJ7_bitCount 38 = .ok (.iushr, 1) := by decide +kernel
theorem dJ7_bitCount_39 : decode cJ7_bitCount 39 = .ok (.iadd, 1) := by decide +kernel
theorem dJ7_bitCount_40 : decode cJ7_bitCount 40 = .ok (.istore_n 0, 1) := by decide +kernel
theorem dJ7_bitCount_41 : decode cJ7_bitCount 41 = .ok (.iload_n 0, 1) := by decide +kernel
theorem dJ7_bitCount_42 : decode cJ7_bitCount 42 = .ok (.iload_n 0, 1) := by decide +kernel
theorem dJ7_bitCount_43 : decode cJ7_bitCount 43 = .ok (.bipush 16, 2) := by decide +kernel
theorem dJ7_bitCount_45 : decode cJ7_bitCount 45 = .ok (.iushr, 1) := by decide +kernel
theorem dJ7_bitCount_46 : decode cJ7_bitCount 46 = .ok (.iadd, 1) := by decide +kernel
theorem dJ7_bitCount_47 : decode cJ7_bitCount 47 = .ok (.istore_n 0, 1) := by decide +kernel
theorem dJ7_bitCount_48 : decode cJ7_bitCount 48 = .ok (.iload_n 0, 1) := by decide +kernel
theorem dJ7_bitCount_49 : decode cJ7_bitCount 49 = .ok (.bipush 63, 2) := by decide +kernel
theorem dJ7_bitCount_51 : decode cJ7_bitCount 51 = .ok (.iand, 1) := by decide +kernel
theorem dJ7_bitCount_52 : decode cJ7_bitCount 52 = .ok (.ireturn, 1) := by decide +kernel
def fJ7_bitCount (σ : St) (a0 : Int32) : Option (Int32) :=
  o_let (a0 - (((a0.toUInt32 >>> ((1 : Int32).toUInt32 &&& Int32.toUInt32 31)).toInt32) &&& 1431655765)) fun x1 =>
  o_let ((x1 &&& 858993459) + (((x1.toUInt32 >>> ((2 : Int32).toUInt32 &&& Int32.toUInt32 31)).toInt32) &&& 858993459)) fun x2 =>
  o_let ((x2 + ((x2.toUInt32 >>> ((4 : Int32).toUInt32 &&& Int32.toUInt32 31)).toInt32)) &&& 252645135) fun x3 =>
  o_let (x3 + ((x3.toUInt32 >>> ((8 : Int32).toUInt32 &&& Int32.toUInt32 31)).toInt32)) fun x4 =>
  o_let (x4 + ((x4.toUInt32 >>> ((16 : Int32).toUInt32 &&& Int32.toUInt32 31)).toInt32)) fun x5 =>
  some (x5 &&& 63)

set_option maxHeartbeats 4000000 in
theorem wJ7_bitCount {l : Launch} {s0 : State} {A0 : Array Value} {D : va_G} {ac : Nat → ClassId} (G : Gl s0 A0 D ac) {σ : St} {a0 : Int32} {v : Int32} (hf : fJ7_bitCount σ a0 = some (v)) : Met l yJ7_bitCount (ws_ yJ7_bitCount cJ7_bitCount 1 (some (.int))) ({ frames := 0, cells := 0, slots := 0, locals := 0 } : Room) (Pn s0 D ac [.int a0] σ) (Qn s0 D ac (some (.int v)) σ) 0 0 (fr s0) := by
  refine x_met (by decide) (Nat.le_of_ble_eq_true rfl) ?_
  intro p e s m args below meth c ls C hnm h hl
  have C : Cx s0 p s m args meth c cJ7_bitCount 1 "java/lang/Integer" (some (.int)) := C
  have hx := C.1
  have hb := C.2.1
  have hl : lv_has ls 1 [(0, .int a0)] := hl
  unfold fJ7_bitCount at hf
  refine lv_iload_n hx hb dJ7_bitCount_0 rfl (lv_at hl 0 rfl) ?_
  refine lv_iload_n hx hb dJ7_bitCount_1 rfl (lv_at hl 0 rfl) ?_
  refine lv_iconst (v := 1) hx hb dJ7_bitCount_2 (by decide) ?_
  refine lv_iushr hx hb dJ7_bitCount_3 rfl ?_
  refine lv_ldcw (v := 1431655765) hx hb C.2.2.2.1 (C.2.2.2.2.1 _ q927) dJ7_bitCount_4 ?_
  refine lv_iand hx hb dJ7_bitCount_7 ?_
  refine lv_isub hx hb dJ7_bitCount_8 ?_
  refine x_letI hf (fun x1 hf => ?_)
  refine lv_istore_n (lv' := [(0, .int x1)]) hx hb dJ7_bitCount_9 rfl hl (by decide) rfl (fun ls hl => ?_)
  refine lv_iload_n hx hb dJ7_bitCount_10 rfl (lv_at hl 0 rfl) ?_
  refine lv_ldcw (v := 858993459) hx hb C.2.2.2.1 (C.2.2.2.2.1 _ q928) dJ7_bitCount_11 ?_
  refine lv_iand hx hb dJ7_bitCount_14 ?_
  refine lv_iload_n hx hb dJ7_bitCount_15 rfl (lv_at hl 0 rfl) ?_
  refine lv_iconst (v := 2) hx hb dJ7_bitCount_16 (by decide) ?_
  refine lv_iushr hx hb dJ7_bitCount_17 rfl ?_
  refine lv_ldcw (v := 858993459) hx hb C.2.2.2.1 (C.2.2.2.2.1 _ q928) dJ7_bitCount_18 ?_
  refine lv_iand hx hb dJ7_bitCount_21 ?_
  refine lv_iadd hx hb dJ7_bitCount_22 ?_
  refine x_letI hf (fun x2 hf => ?_)
  refine lv_istore_n (lv' := [(0, .int x2)]) hx hb dJ7_bitCount_23 rfl hl (by decide) rfl (fun ls hl => ?_)
  refine lv_iload_n hx hb dJ7_bitCount_24 rfl (lv_at hl 0 rfl) ?_
  refine lv_iload_n hx hb dJ7_bitCount_25 rfl (lv_at hl 0 rfl) ?_
  refine lv_iconst (v := 4) hx hb dJ7_bitCount_26 (by decide) ?_
  refine lv_iushr hx hb dJ7_bitCount_27 rfl ?_
  refine lv_iadd hx hb dJ7_bitCount_28 ?_
  refine lv_ldcw (v := 252645135) hx hb C.2.2.2.1 (C.2.2.2.2.1 _ q929) dJ7_bitCount_29 ?_
  refine lv_iand hx hb dJ7_bitCount_32 ?_
  refine x_letI hf (fun x3 hf => ?_)
  refine lv_istore_n (lv' := [(0, .int x3)]) hx hb dJ7_bitCount_33 rfl hl (by decide) rfl (fun ls hl => ?_)
  refine lv_iload_n hx hb dJ7_bitCount_34 rfl (lv_at hl 0 rfl) ?_
  refine lv_iload_n hx hb dJ7_bitCount_35 rfl (lv_at hl 0 rfl) ?_
  refine lv_bipush (v := 8) hx hb dJ7_bitCount_36 (by decide) ?_
  refine lv_iushr hx hb dJ7_bitCount_38 rfl ?_
  refine lv_iadd hx hb dJ7_bitCount_39 ?_
  refine x_letI hf (fun x4 hf => ?_)
  refine lv_istore_n (lv' := [(0, .int x4)]) hx hb dJ7_bitCount_40 rfl hl (by decide) rfl (fun ls hl => ?_)
  refine lv_iload_n hx hb dJ7_bitCount_41 rfl (lv_at hl 0 rfl) ?_
  refine lv_iload_n hx hb dJ7_bitCount_42 rfl (lv_at hl 0 rfl) ?_
  refine lv_bipush (v := 16) hx hb dJ7_bitCount_43 (by decide) ?_
  refine lv_iushr hx hb dJ7_bitCount_45 rfl ?_
  refine lv_iadd hx hb dJ7_bitCount_46 ?_
  refine x_letI hf (fun x5 hf => ?_)
  refine lv_istore_n (lv' := [(0, .int x5)]) hx hb dJ7_bitCount_47 rfl hl (by decide) rfl (fun ls hl => ?_)
  refine lv_iload_n hx hb dJ7_bitCount_48 rfl (lv_at hl 0 rfl) ?_
  refine lv_bipush (v := 63) hx hb dJ7_bitCount_49 (by decide) ?_
  refine lv_iand hx hb dJ7_bitCount_51 ?_
  cases hf
  refine W.widen (k := 0) (n := 0) (Nat.le_of_ble_eq_true rfl) (Nat.le_of_ble_eq_true rfl) ?_
  exact x_iret C h dJ7_bitCount_52

theorem dJ7_numberOfTrailingZeros_0 : decode cJ7_numberOfTrailingZeros 0 = .ok (.iload_n 0, 1) := by decide +kernel
theorem dJ7_numberOfTrailingZeros_1 : decode cJ7_numberOfTrailingZeros 1 = .ok (.iconst (-1), 1) := by decide +kernel
theorem dJ7_numberOfTrailingZeros_2 : decode cJ7_numberOfTrailingZeros 2 = .ok (.ixor, 1) := by decide +kernel
theorem dJ7_numberOfTrailingZeros_3 : decode cJ7_numberOfTrailingZeros 3 = .ok (.iload_n 0, 1) := by decide +kernel
theorem dJ7_numberOfTrailingZeros_4 : decode cJ7_numberOfTrailingZeros 4 = .ok (.iconst 1, 1) := by decide +kernel
theorem dJ7_numberOfTrailingZeros_5 : decode cJ7_numberOfTrailingZeros 5 = .ok (.isub, 1) := by decide +kernel
theorem dJ7_numberOfTrailingZeros_6 : decode cJ7_numberOfTrailingZeros 6 = .ok (.iand, 1) := by decide +kernel
theorem dJ7_numberOfTrailingZeros_7 : decode cJ7_numberOfTrailingZeros 7 = .ok (.istore_n 0, 1) := by decide +kernel
theorem dJ7_numberOfTrailingZeros_8 : decode cJ7_numberOfTrailingZeros 8 = .ok (.iload_n 0, 1) := by decide +kernel
theorem dJ7_numberOfTrailingZeros_9 : decode cJ7_numberOfTrailingZeros 9 = .ok (.ifCond .gt 8, 3) := by decide +kernel
theorem dJ7_numberOfTrailingZeros_12 : decode cJ7_numberOfTrailingZeros 12 = .ok (.iload_n 0, 1) := by decide +kernel
theorem dJ7_numberOfTrailingZeros_13 : decode cJ7_numberOfTrailingZeros 13 = .ok (.bipush 32, 2) := by decide +kernel
theorem dJ7_numberOfTrailingZeros_15 : decode cJ7_numberOfTrailingZeros 15 = .ok (.iand, 1) := by decide +kernel
theorem dJ7_numberOfTrailingZeros_16 : decode cJ7_numberOfTrailingZeros 16 = .ok (.ireturn, 1) := by decide +kernel
theorem dJ7_numberOfTrailingZeros_17 : decode cJ7_numberOfTrailingZeros 17 = .ok (.iconst 1, 1) := by decide +kernel
theorem dJ7_numberOfTrailingZeros_18 : decode cJ7_numberOfTrailingZeros 18 = .ok (.istore_n 1, 1) := by decide +kernel
theorem dJ7_numberOfTrailingZeros_19 : decode cJ7_numberOfTrailingZeros 19 = .ok (.iload_n 0, 1) := by decide +kernel
theorem dJ7_numberOfTrailingZeros_20 : decode cJ7_numberOfTrailingZeros 20 = .ok (.ldc_w 264, 3) := by decide +kernel
theorem dJ7_numberOfTrailingZeros_23 : decode cJ7_numberOfTrailingZeros 23 = .ok (.if_icmp .le 11, 3) := by decide +kernel
theorem dJ7_numberOfTrailingZeros_26 : decode cJ7_numberOfTrailingZeros 26 = .ok (.iinc 1 16, 3) := by decide +kernel
theorem dJ7_numberOfTrailingZeros_29 : decode cJ7_numberOfTrailingZeros 29 = .ok (.iload_n 0, 1) := by decide +kernel
theorem dJ7_numberOfTrailingZeros_30 : decode cJ7_numberOfTrailingZeros 30 = .ok (.bipush 16, 2) := by decide +kernel
theorem dJ7_numberOfTrailingZeros_32 : decode cJ7_numberOfTrailingZeros 32 = .ok (.iushr, 1) := by decide +kernel
theorem dJ7_numberOfTrailingZeros_33 : decode cJ7_numberOfTrailingZeros 33 = .ok (.istore_n 0, 1) := by decide +kernel
theorem dJ7_numberOfTrailingZeros_34 : decode cJ7_numberOfTrailingZeros 34 = .ok (.iload_n 0, 1) := by decide +kernel
theorem dJ7_numberOfTrailingZeros_35 : decode cJ7_numberOfTrailingZeros 35 = .ok (.sipush 256, 3) := by decide +kernel
theorem dJ7_numberOfTrailingZeros_38 : decode cJ7_numberOfTrailingZeros 38 = .ok (.if_icmp .le 11, 3) := by decide +kernel
theorem dJ7_numberOfTrailingZeros_41 : decode cJ7_numberOfTrailingZeros 41 = .ok (.iinc 1 8, 3) := by decide +kernel
theorem dJ7_numberOfTrailingZeros_44 : decode cJ7_numberOfTrailingZeros 44 = .ok (.iload_n 0, 1) := by decide +kernel
theorem dJ7_numberOfTrailingZeros_45 : decode cJ7_numberOfTrailingZeros 45 = .ok (.bipush 8, 2) := by decide +kernel
theorem dJ7_numberOfTrailingZeros_47 : decode cJ7_numberOfTrailingZeros 47 = .ok (.iushr, 1) := by decide +kernel
theorem dJ7_numberOfTrailingZeros_48 : decode cJ7_numberOfTrailingZeros 48 = .ok (.istore_n 0, 1) := by decide +kernel
theorem dJ7_numberOfTrailingZeros_49 : decode cJ7_numberOfTrailingZeros 49 = .ok (.iload_n 0, 1) := by decide +kernel
theorem dJ7_numberOfTrailingZeros_50 : decode cJ7_numberOfTrailingZeros 50 = .ok (.bipush 16, 2) := by decide +kernel
theorem dJ7_numberOfTrailingZeros_52 : decode cJ7_numberOfTrailingZeros 52 = .ok (.if_icmp .le 10, 3) := by decide +kernel
theorem dJ7_numberOfTrailingZeros_55 : decode cJ7_numberOfTrailingZeros 55 = .ok (.iinc 1 4, 3) := by decide +kernel
theorem dJ7_numberOfTrailingZeros_58 : decode cJ7_numberOfTrailingZeros 58 = .ok (.iload_n 0, 1) := by decide +kernel
theorem dJ7_numberOfTrailingZeros_59 : decode cJ7_numberOfTrailingZeros 59 = .ok (.iconst 4, 1) := by decide +kernel
theorem dJ7_numberOfTrailingZeros_60 : decode cJ7_numberOfTrailingZeros 60 = .ok (.iushr, 1) := by decide +kernel
theorem dJ7_numberOfTrailingZeros_61 : decode cJ7_numberOfTrailingZeros 61 = .ok (.istore_n 0, 1) := by decide +kernel
theorem dJ7_numberOfTrailingZeros_62 : decode cJ7_numberOfTrailingZeros 62 = .ok (.iload_n 0, 1) := by decide +kernel
theorem dJ7_numberOfTrailingZeros_63 : decode cJ7_numberOfTrailingZeros 63 = .ok (.iconst 4, 1) := by decide +kernel
theorem dJ7_numberOfTrailingZeros_64 : decode cJ7_numberOfTrailingZeros 64 = .ok (.if_icmp .le 10, 3) := by decide +kernel
theorem dJ7_numberOfTrailingZeros_67 : decode cJ7_numberOfTrailingZeros 67 = .ok (.iinc 1 2, 3) := by decide +kernel
theorem dJ7_numberOfTrailingZeros_70 : decode cJ7_numberOfTrailingZeros 70 = .ok (.iload_n 0, 1) := by decide +kernel
theorem dJ7_numberOfTrailingZeros_71 : decode cJ7_numberOfTrailingZeros 71 = .ok (.iconst 2, 1) := by decide +kernel
theorem dJ7_numberOfTrailingZeros_72 : decode cJ7_numberOfTrailingZeros 72 = .ok (.iushr, 1) := by decide +kernel
theorem dJ7_numberOfTrailingZeros_73 : decode cJ7_numberOfTrailingZeros 73 = .ok (.istore_n 0, 1) := by decide +kernel
theorem dJ7_numberOfTrailingZeros_74 : decode cJ7_numberOfTrailingZeros 74 = .ok (.iload_n 1, 1) := by decide +kernel
theorem dJ7_numberOfTrailingZeros_75 : decode cJ7_numberOfTrailingZeros 75 = .ok (.iload_n 0, 1) := by decide +kernel
theorem dJ7_numberOfTrailingZeros_76 : decode cJ7_numberOfTrailingZeros 76 = .ok (.iconst 1, 1) := by decide +kernel
theorem dJ7_numberOfTrailingZeros_77 : decode cJ7_numberOfTrailingZeros 77 = .ok (.iushr, 1) := by decide +kernel
theorem dJ7_numberOfTrailingZeros_78 : decode cJ7_numberOfTrailingZeros 78 = .ok (.iadd, 1) := by decide +kernel
theorem dJ7_numberOfTrailingZeros_79 : decode cJ7_numberOfTrailingZeros 79 = .ok (.ireturn, 1) := by decide +kernel
def fJ7_numberOfTrailingZeros (σ : St) (a0 : Int32) : Option (Int32) :=
  o_let ((a0 ^^^ ((-1))) &&& (a0 - 1)) fun x1 =>
  if 0 < x1 then
    jn (fun (x3 : Int32) (x4 : Int32) =>
      jn (fun (x6 : Int32) (x7 : Int32) =>
        jn (fun (x9 : Int32) (x10 : Int32) =>
          jn (fun (x12 : Int32) (x13 : Int32) =>
            some (x13 + ((x12.toUInt32 >>> ((1 : Int32).toUInt32 &&& Int32.toUInt32 31)).toInt32))) fun j74 =>
          if x9 ≤ 4 then
            j74 x9 x10
          else
          o_let ((x9.toUInt32 >>> ((2 : Int32).toUInt32 &&& Int32.toUInt32 31)).toInt32) fun x11 =>
          j74 x11 (x10 + 2)) fun j62 =>
        if x6 ≤ 16 then
          j62 x6 x7
        else
        o_let ((x6.toUInt32 >>> ((4 : Int32).toUInt32 &&& Int32.toUInt32 31)).toInt32) fun x8 =>
        j62 x8 (x7 + 4)) fun j49 =>
      if x3 ≤ 256 then
        j49 x3 x4
      else
      o_let ((x3.toUInt32 >>> ((8 : Int32).toUInt32 &&& Int32.toUInt32 31)).toInt32) fun x5 =>
      j49 x5 (x4 + 8)) fun j34 =>
    if x1 ≤ 65536 then
      j34 x1 1
    else
    o_let ((x1.toUInt32 >>> ((16 : Int32).toUInt32 &&& Int32.toUInt32 31)).toInt32) fun x2 =>
    j34 x2 (1 + 16)
  else
  some (x1 &&& 32)

set_option maxHeartbeats 4000000 in
theorem wJ7_numberOfTrailingZeros {l : Launch} {s0 : State} {A0 : Array Value} {D : va_G} {ac : Nat → ClassId} (G : Gl s0 A0 D ac) {σ : St} {a0 : Int32} {v : Int32} (hf : fJ7_numberOfTrailingZeros σ a0 = some (v)) : Met l yJ7_numberOfTrailingZeros (ws_ yJ7_numberOfTrailingZeros cJ7_numberOfTrailingZeros 2 (some (.int))) ({ frames := 0, cells := 0, slots := 0, locals := 0 } : Room) (Pn s0 D ac [.int a0] σ) (Qn s0 D ac (some (.int v)) σ) 0 0 (fr s0) := by
  refine x_met (by decide) (Nat.le_of_ble_eq_true rfl) ?_
  intro p e s m args below meth c ls C hnm h hl
  have C : Cx s0 p s m args meth c cJ7_numberOfTrailingZeros 2 "java/lang/Integer" (some (.int)) := C
  have hx := C.1
  have hb := C.2.1
  have hl : lv_has ls 2 [(0, .int a0)] := hl
  unfold fJ7_numberOfTrailingZeros at hf
  refine lv_iload_n hx hb dJ7_numberOfTrailingZeros_0 rfl (lv_at hl 0 rfl) ?_
  refine lv_iconst (v := (-1)) hx hb dJ7_numberOfTrailingZeros_1 (by decide) ?_
  refine lv_ixor hx hb dJ7_numberOfTrailingZeros_2 ?_
  refine lv_iload_n hx hb dJ7_numberOfTrailingZeros_3 rfl (lv_at hl 0 rfl) ?_
  refine lv_iconst (v := 1) hx hb dJ7_numberOfTrailingZeros_4 (by decide) ?_
  refine lv_isub hx hb dJ7_numberOfTrailingZeros_5 ?_
  refine lv_iand hx hb dJ7_numberOfTrailingZeros_6 ?_
  refine x_letI hf (fun x1 hf => ?_)
  refine lv_istore_n (lv' := [(0, .int x1)]) hx hb dJ7_numberOfTrailingZeros_7 rfl hl (by decide) rfl (fun ls hl => ?_)
  refine lv_iload_n hx hb dJ7_numberOfTrailingZeros_8 rfl (lv_at hl 0 rfl) ?_
  refine lv_if_gt (tgt := 17) hx hb dJ7_numberOfTrailingZeros_9 (by decide) (fun hc => ?_) (fun hc => ?_)
  · have hf := hf_t hc hf
    refine lv_iconst (v := 1) hx hb dJ7_numberOfTrailingZeros_17 (by decide) ?_
    refine lv_istore_n (lv' := [(1, .int 1), (0, .int x1)]) hx hb dJ7_numberOfTrailingZeros_18 rfl hl (by decide) rfl (fun ls hl => ?_)
    refine lv_iload_n hx hb dJ7_numberOfTrailingZeros_19 rfl (lv_at hl 1 rfl) ?_
    refine lv_ldcw (v := 65536) hx hb C.2.2.2.1 (C.2.2.2.2.1 _ q1044) dJ7_numberOfTrailingZeros_20 ?_
    refine jn_of (P := fun j => ∀ (x3 : Int32) (x4 : Int32), j x3 x4 = some (v) → ∀ (H : Heap) (locs : List Loc) (ls : Array Slot), Hs s0 D ac σ H locs → lv_has ls 2 [(0, .int x3), (1, .int x4)] → W p l e ({ frames := 0, cells := 0, slots := 0, locals := 0 } : Room) s m args below meth c H locs 0 0 (MQ below (Qn s0 D ac (some (.int v)) σ) args s 0 0 (fr s0)) (F0 m 34 ls [])) hf ?_ ?_
    · intro x3 x4 hf H locs ls h hl
      refine lv_iload_n hx hb dJ7_numberOfTrailingZeros_34 rfl (lv_at hl 0 rfl) ?_
      refine lv_sipush (v := 256) hx hb dJ7_numberOfTrailingZeros_35 (by decide) ?_
      refine jn_of (P := fun j => ∀ (x6 : Int32) (x7 : Int32), j x6 x7 = some (v) → ∀ (H : Heap) (locs : List Loc) (ls : Array Slot), Hs s0 D ac σ H locs → lv_has ls 2 [(0, .int x6), (1, .int x7)] → W p l e ({ frames := 0, cells := 0, slots := 0, locals := 0 } : Room) s m args below meth c H locs 0 0 (MQ below (Qn s0 D ac (some (.int v)) σ) args s 0 0 (fr s0)) (F0 m 49 ls [])) hf ?_ ?_
      · intro x6 x7 hf H locs ls h hl
        refine lv_iload_n hx hb dJ7_numberOfTrailingZeros_49 rfl (lv_at hl 0 rfl) ?_
        refine lv_bipush (v := 16) hx hb dJ7_numberOfTrailingZeros_50 (by decide) ?_
        refine jn_of (P := fun j => ∀ (x9 : Int32) (x10 : Int32), j x9 x10 = some (v) → ∀ (H : Heap) (locs : List Loc) (ls : Array Slot), Hs s0 D ac σ H locs → lv_has ls 2 [(0, .int x9), (1, .int x10)] → W p l e ({ frames := 0, cells := 0, slots := 0, locals := 0 } : Room) s m args below meth c H locs 0 0 (MQ below (Qn s0 D ac (some (.int v)) σ) args s 0 0 (fr s0)) (F0 m 62 ls [])) hf ?_ ?_
        · intro x9 x10 hf H locs ls h hl
          refine lv_iload_n hx hb dJ7_numberOfTrailingZeros_62 rfl (lv_at hl 0 rfl) ?_
          refine lv_iconst (v := 4) hx hb dJ7_numberOfTrailingZeros_63 (by decide) ?_
          refine jn_of (P := fun j => ∀ (x12 : Int32) (x13 : Int32), j x12 x13 = some (v) → ∀ (H : Heap) (locs : List Loc) (ls : Array Slot), Hs s0 D ac σ H locs → lv_has ls 2 [(0, .int x12), (1, .int x13)] → W p l e ({ frames := 0, cells := 0, slots := 0, locals := 0 } : Room) s m args below meth c H locs 0 0 (MQ below (Qn s0 D ac (some (.int v)) σ) args s 0 0 (fr s0)) (F0 m 74 ls [])) hf ?_ ?_
          · intro x12 x13 hf H locs ls h hl
            refine lv_iload_n hx hb dJ7_numberOfTrailingZeros_74 rfl (lv_at hl 1 rfl) ?_
            refine lv_iload_n hx hb dJ7_numberOfTrailingZeros_75 rfl (lv_at hl 0 rfl) ?_
            refine lv_iconst (v := 1) hx hb dJ7_numberOfTrailingZeros_76 (by decide) ?_
            refine lv_iushr hx hb dJ7_numberOfTrailingZeros_77 rfl ?_
            refine lv_iadd hx hb dJ7_numberOfTrailingZeros_78 ?_
            cases hf
            refine W.widen (k := 0) (n := 0) (Nat.le_of_ble_eq_true rfl) (Nat.le_of_ble_eq_true rfl) ?_
            exact x_iret C h dJ7_numberOfTrailingZeros_79
          intro j74 hj74 hf
          refine lv_icmp_le (tgt := 74) hx hb dJ7_numberOfTrailingZeros_64 (by decide) (fun hc => ?_) (fun hc => ?_)
          · have hf := hf_t hc hf
            exact hj74 _ _ hf _ _ _ h (lv_sub hl [0, 1] rfl)
          · have hf := hf_f hc hf
            refine lv_iinc (v := x10 + 2) (lv' := [(1, .int (x10 + 2)), (0, .int x9)]) hx hb dJ7_numberOfTrailingZeros_67 hl (k := 1) rfl rfl (by decide) rfl (fun ls hl => ?_)
            refine lv_iload_n hx hb dJ7_numberOfTrailingZeros_70 rfl (lv_at hl 1 rfl) ?_
            refine lv_iconst (v := 2) hx hb dJ7_numberOfTrailingZeros_71 (by decide) ?_
            refine lv_iushr hx hb dJ7_numberOfTrailingZeros_72 rfl ?_
            refine x_letI hf (fun x11 hf => ?_)
            refine lv_istore_n (lv' := [(0, .int x11), (1, .int (x10 + 2))]) hx hb dJ7_numberOfTrailingZeros_73 rfl hl (by decide) rfl (fun ls hl => ?_)
            exact hj74 _ _ hf _ _ _ h (lv_sub hl [0, 1] rfl)
        intro j62 hj62 hf
        refine lv_icmp_le (tgt := 62) hx hb dJ7_numberOfTrailingZeros_52 (by decide) (fun hc => ?_) (fun hc => ?_)
        · have hf := hf_t hc hf
          exact hj62 _ _ hf _ _ _ h (lv_sub hl [0, 1] rfl)
        · have hf := hf_f hc hf
          refine lv_iinc (v := x7 + 4) (lv' := [(1, .int (x7 + 4)), (0, .int x6)]) hx hb dJ7_numberOfTrailingZeros_55 hl (k := 1) rfl rfl (by decide) rfl (fun ls hl => ?_)
          refine lv_iload_n hx hb dJ7_numberOfTrailingZeros_58 rfl (lv_at hl 1 rfl) ?_
          refine lv_iconst (v := 4) hx hb dJ7_numberOfTrailingZeros_59 (by decide) ?_
          refine lv_iushr hx hb dJ7_numberOfTrailingZeros_60 rfl ?_
          refine x_letI hf (fun x8 hf => ?_)
          refine lv_istore_n (lv' := [(0, .int x8), (1, .int (x7 + 4))]) hx hb dJ7_numberOfTrailingZeros_61 rfl hl (by decide) rfl (fun ls hl => ?_)
          exact hj62 _ _ hf _ _ _ h (lv_sub hl [0, 1] rfl)
      intro j49 hj49 hf
      refine lv_icmp_le (tgt := 49) hx hb dJ7_numberOfTrailingZeros_38 (by decide) (fun hc => ?_) (fun hc => ?_)
      · have hf := hf_t hc hf
        exact hj49 _ _ hf _ _ _ h (lv_sub hl [0, 1] rfl)
      · have hf := hf_f hc hf
        refine lv_iinc (v := x4 + 8) (lv' := [(1, .int (x4 + 8)), (0, .int x3)]) hx hb dJ7_numberOfTrailingZeros_41 hl (k := 1) rfl rfl (by decide) rfl (fun ls hl => ?_)
        refine lv_iload_n hx hb dJ7_numberOfTrailingZeros_44 rfl (lv_at hl 1 rfl) ?_
        refine lv_bipush (v := 8) hx hb dJ7_numberOfTrailingZeros_45 (by decide) ?_
        refine lv_iushr hx hb dJ7_numberOfTrailingZeros_47 rfl ?_
        refine x_letI hf (fun x5 hf => ?_)
        refine lv_istore_n (lv' := [(0, .int x5), (1, .int (x4 + 8))]) hx hb dJ7_numberOfTrailingZeros_48 rfl hl (by decide) rfl (fun ls hl => ?_)
        exact hj49 _ _ hf _ _ _ h (lv_sub hl [0, 1] rfl)
    intro j34 hj34 hf
    refine lv_icmp_le (tgt := 34) hx hb dJ7_numberOfTrailingZeros_23 (by decide) (fun hc => ?_) (fun hc => ?_)
    · have hf := hf_t hc hf
      exact hj34 _ _ hf _ _ _ h (lv_sub hl [1, 0] rfl)
    · have hf := hf_f hc hf
      refine lv_iinc (v := 1 + 16) (lv' := [(1, .int (1 + 16)), (0, .int x1)]) hx hb dJ7_numberOfTrailingZeros_26 hl (k := 0) rfl rfl (by decide) rfl (fun ls hl => ?_)
      refine lv_iload_n hx hb dJ7_numberOfTrailingZeros_29 rfl (lv_at hl 1 rfl) ?_
      refine lv_bipush (v := 16) hx hb dJ7_numberOfTrailingZeros_30 (by decide) ?_
      refine lv_iushr hx hb dJ7_numberOfTrailingZeros_32 rfl ?_
      refine x_letI hf (fun x2 hf => ?_)
      refine lv_istore_n (lv' := [(0, .int x2), (1, .int (1 + 16))]) hx hb dJ7_numberOfTrailingZeros_33 rfl hl (by decide) rfl (fun ls hl => ?_)
      exact hj34 _ _ hf _ _ _ h (lv_sub hl [0, 1] rfl)
  · have hf := hf_f hc hf
    refine lv_iload_n hx hb dJ7_numberOfTrailingZeros_12 rfl (lv_at hl 0 rfl) ?_
    refine lv_bipush (v := 32) hx hb dJ7_numberOfTrailingZeros_13 (by decide) ?_
    refine lv_iand hx hb dJ7_numberOfTrailingZeros_15 ?_
    cases hf
    refine W.widen (k := 0) (n := 0) (Nat.le_of_ble_eq_true rfl) (Nat.le_of_ble_eq_true rfl) ?_
    exact x_iret C h dJ7_numberOfTrailingZeros_16
