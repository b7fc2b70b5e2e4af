set_option maxRecDepth 100000
theorem dX7_isNumber_0 : decode cX7_isNumber 0 = .ok (.aload_n 0, 1) := by decide +kernel
theorem dX7_isNumber_1 : decode cX7_isNumber 1 = .ok (.invokevirtual 198, 3) := by decide +kernel
theorem dX7_isNumber_4 : decode cX7_isNumber 4 = .ok (.aload_n 0, 1) := by decide +kernel
theorem dX7_isNumber_5 : decode cX7_isNumber 5 = .ok (.getfield 181, 3) := by decide +kernel
theorem dX7_isNumber_8 : decode cX7_isNumber 8 = .ok (.ldc2_w 191, 3) := by decide +kernel
theorem dX7_isNumber_11 : decode cX7_isNumber 11 = .ok (.lcmp, 1) := by decide +kernel
theorem dX7_isNumber_12 : decode cX7_isNumber 12 = .ok (.ifCond .ne 11, 3) := by decide +kernel
theorem dX7_isNumber_15 : decode cX7_isNumber 15 = .ok (.aload_n 0, 1) := by decide +kernel
theorem dX7_isNumber_16 : decode cX7_isNumber 16 = .ok (.getfield 176, 3) := by decide +kernel
theorem dX7_isNumber_19 : decode cX7_isNumber 19 = .ok (.iload_n 2, 1) := by decide +kernel
theorem dX7_isNumber_20 : decode cX7_isNumber 20 = .ok (.if_icmp .le 8, 3) := by decide +kernel
theorem dX7_isNumber_23 : decode cX7_isNumber 23 = .ok (.aload_n 0, 1) := by decide +kernel
theorem dX7_isNumber_24 : decode cX7_isNumber 24 = .ok (.invokevirtual 201, 3) := by decide +kernel
theorem dX7_isNumber_27 : decode cX7_isNumber 27 = .ok (.ireturn, 1) := by decide +kernel
theorem dX7_isNumber_28 : decode cX7_isNumber 28 = .ok (.aload_n 0, 1) := by decide +kernel
theorem dX7_isNumber_29 : decode cX7_isNumber 29 = .ok (.getfield 56, 3) := by decide +kernel
theorem dX7_isNumber_32 : decode cX7_isNumber 32 = .ok (.iload_n 1, 1) := by decide +kernel
theorem dX7_isNumber_33 : decode cX7_isNumber 33 = .ok (.aload_n 0, 1) := by decide +kernel
theorem dX7_isNumber_34 : decode cX7_isNumber 34 = .ok (.getfield 176, 3) := by decide +kernel
theorem dX7_isNumber_37 : decode cX7_isNumber 37 = .ok (.iastore, 1) := by decide +kernel
theorem dX7_isNumber_38 : decode cX7_isNumber 38 = .ok (.iconst 1, 1) := by decide +kernel
theorem dX7_isNumber_39 : decode cX7_isNumber 39 = .ok (.ireturn, 1) := by decide +kernel
def fX7_isNumber (σ : St) (a0 : Nat) (a1 : Int32) (a2 : Int32) : Option (Int32 × St) :=
  o_k σ a0 5 <|
  (fX7_nextToken σ a0).bind fun σ1 =>
  o_gL σ1 a0 5 22 fun y2 =>
  jn (fun (_ : Unit) =>
    o_k σ1 a0 5 <|
    (fX7_fails σ1 a0).bind <| un2 fun x7 σ8 =>
    o_bz x7 <| some (x7, σ8)) fun j23 =>
  if (lg_cmp y2 ((-1))) = 0 then
    o_gI σ1 a0 5 24 fun x3 =>
    if x3 ≤ a2 then
      o_gR σ1 a0 5 27 fun r4 =>
      o_gI σ1 a0 5 24 fun x5 =>
      o_sI σ1 r4 0 a1 x5 fun σ6 =>
      some (1, σ6)
    else
    j23 ()
  else
  j23 ()

set_option maxHeartbeats 4000000 in
theorem wX7_isNumber {l : Launch} {s0 : State} {A0 : Array Value} {D : va_G} {ac : Nat → ClassId} (G : Gl s0 A0 D ac) {σ : St} {a0 : Nat} {a1 : Int32} {a2 : Int32} {v : Int32} {σ' : St} (hf : fX7_isNumber σ a0 a1 a2 = some (v, σ')) : Met l yX7_isNumber (ws_ yX7_isNumber cX7_isNumber 3 (some (.boolean))) ({ frames := 2, cells := 0, slots := 0, locals := 42 } : Room) (Pn s0 D ac [.ref a0, .int a1, .int a2] σ) (Qn s0 D ac (some (.int v)) σ') 0 0 (fr s0) := by
  refine x_met (by decide) (Nat.le_of_ble_eq_true rfl) ?_
  intro p e s m args below meth c ls C hnm h hl
  have C : Cx s0 p s m args meth c cX7_isNumber 3 "HutForShowModel" (some (.boolean)) := C
  have hx := C.1
  have hb := C.2.1
  have hl : lv_has ls 3 [(0, .ref a0), (1, .int a1), (2, .int a2)] := hl
  unfold fX7_isNumber at hf
  refine lv_aload_n hx hb dX7_isNumber_0 rfl (lv_at hl 0 rfl) ?_
  obtain ⟨hk, hf⟩ := k_of hf
  obtain ⟨σ1, hc, hf⟩ := hf_b hf
  refine x_cV (q := (RX7, TX7, 50)) (rest := []) (As := []) (n := 0) (ov := none) G C h (wX7_nextToken G hc) hk rfl (lw_V q1298 q1300 qs33 q61 q1301) (by decide +kernel) ⟨Nat.le_of_ble_eq_true rfl, Nat.le_of_ble_eq_true rfl⟩ rfl rfl rfl hl.1 rfl (Nat.le_of_ble_eq_true rfl) dX7_isNumber_1 ⟨(Nat.le_of_ble_eq_true rfl), (Nat.le_of_ble_eq_true rfl)⟩ (fun H locs h => ?_)
  refine lv_aload_n hx hb dX7_isNumber_4 rfl (lv_at hl 0 rfl) ?_
  refine x_gL (q := (RX7, TX7, 50)) (j := 22) G C h rfl (by decide) (fun _ _ _ => rfl) (lk C q1078) (fun _ z => z) dX7_isNumber_5 hf (fun y2 hf => ?_)
  refine lv_ldc2 (v := (-1)) hx hb C.2.2.2.1 (C.2.2.2.2.1 _ q1306) dX7_isNumber_8 ?_
  refine W.lcmp hx hb dX7_isNumber_11 ?_
  refine jn_of (P := fun j => ∀ (u0 : Unit), j u0 = some (v, σ') → ∀ (H : Heap) (locs : List Loc) (ls : Array Slot), Hs s0 D ac σ1 H locs → lv_has ls 3 [(0, .ref a0), (1, .int a1), (2, .int a2)] → W p l e ({ frames := 2, cells := 0, slots := 0, locals := 42 } : Room) s m args below meth c H locs 0 0 (MQ below (Qn s0 D ac (some (.int v)) σ') args s 0 0 (fr s0)) (F0 m 23 ls [])) hf ?_ ?_
  · intro u0 hf H locs ls h hl
    refine lv_aload_n hx hb dX7_isNumber_23 rfl (lv_at hl 0 rfl) ?_
    obtain ⟨hk, hf⟩ := k_of hf
    obtain ⟨⟨x7, σ8⟩, hc, hf⟩ := hf_b hf
    have hf := hf_u2 hf
    refine x_cV (q := (RX7, TX7, 50)) (rest := []) (As := []) (n := 0) (ov := (some (.int x7))) G C h (wX7_fails G hc) hk rfl (lw_V q1313 q1315 qs34 q61 q1316) (by decide +kernel) ⟨Nat.le_of_ble_eq_true rfl, Nat.le_of_ble_eq_true rfl⟩ rfl rfl rfl hl.1 rfl (Nat.le_of_ble_eq_true rfl) dX7_isNumber_24 ⟨(Nat.le_of_ble_eq_true rfl), (Nat.le_of_ble_eq_true rfl)⟩ (fun H locs h => ?_)
    obtain ⟨hz, hf⟩ := bz_of hf
    cases hf
    refine W.widen (k := 0) (n := 0) (Nat.le_of_ble_eq_true rfl) (Nat.le_of_ble_eq_true rfl) ?_
    exact x_zret C h hz dX7_isNumber_27
  intro j23 hj23 hf
  refine lv_if_ne (tgt := 23) hx hb dX7_isNumber_12 (by decide) (fun hc => ?_) (fun hc => ?_)
  · have hf := hf_f hc hf
    exact hj23 () hf _ _ _ h (lv_sub hl [0, 1, 2] rfl)
  · have hf := hf_t hc hf
    refine lv_aload_n hx hb dX7_isNumber_15 rfl (lv_at hl 0 rfl) ?_
    refine x_gI (q := (RX7, TX7, 50)) (j := 24) G C h rfl (by decide) (fun _ _ _ => rfl) (lk C q1080) (fun _ z => z) dX7_isNumber_16 hf (fun x3 hf => ?_)
    refine lv_iload_n hx hb dX7_isNumber_19 rfl (lv_at hl 2 rfl) ?_
    refine lv_icmp_le (tgt := 28) hx hb dX7_isNumber_20 (by decide) (fun hc => ?_) (fun hc => ?_)
    · have hf := hf_t hc hf
      refine lv_aload_n hx hb dX7_isNumber_28 rfl (lv_at hl 0 rfl) ?_
      refine x_gR (q := (RX7, TX7, 50)) (j := 27) G C h rfl (by decide) (fun _ _ _ => rfl) (lk C q1083) (fun _ z => z) dX7_isNumber_29 hf (fun r4 hf => ?_)
      refine lv_iload_n hx hb dX7_isNumber_32 rfl (lv_at hl 1 rfl) ?_
      refine lv_aload_n hx hb dX7_isNumber_33 rfl (lv_at hl 0 rfl) ?_
      refine x_gI (q := (RX7, TX7, 50)) (j := 24) G C h rfl (by decide) (fun _ _ _ => rfl) (lk C q1080) (fun _ z => z) dX7_isNumber_34 hf (fun x5 hf => ?_)
      refine x_iast G C h dX7_isNumber_37 hf (fun σ6 H locs h hf => ?_)
      refine lv_iconst (v := 1) hx hb dX7_isNumber_38 (by decide) ?_
      cases hf
      refine W.widen (k := 0) (n := 0) (Nat.le_of_ble_eq_true rfl) (Nat.le_of_ble_eq_true rfl) ?_
      exact x_zret C h (by decide) dX7_isNumber_39
    · have hf := hf_f hc hf
      exact hj23 () hf _ _ _ h (lv_sub hl [0, 1, 2] rfl)

theorem dX7_isTest_0 : decode cX7_isTest 0 = .ok (.aload_n 0, 1) := by decide +kernel
theorem dX7_isTest_1 : decode cX7_isTest 1 = .ok (.invokevirtual 198, 3) := by decide +kernel
theorem dX7_isTest_4 : decode cX7_isTest 4 = .ok (.aload_n 0, 1) := by decide +kernel
theorem dX7_isTest_5 : decode cX7_isTest 5 = .ok (.getfield 56, 3) := by decide +kernel
theorem dX7_isTest_8 : decode cX7_isTest 8 = .ok (.iload_n 1, 1) := by decide +kernel
theorem dX7_isTest_9 : decode cX7_isTest 9 = .ok (.aload_n 0, 1) := by decide +kernel
theorem dX7_isTest_10 : decode cX7_isTest 10 = .ok (.getfield 181, 3) := by decide +kernel
theorem dX7_isTest_13 : decode cX7_isTest 13 = .ok (.ldc2_w 205, 3) := by decide +kernel
theorem dX7_isTest_16 : decode cX7_isTest 16 = .ok (.lcmp, 1) := by decide +kernel
theorem dX7_isTest_17 : decode cX7_isTest 17 = .ok (.ifCond .ne 7, 3) := by decide +kernel
theorem dX7_isTest_20 : decode cX7_isTest 20 = .ok (.iconst 0, 1) := by decide +kernel
theorem dX7_isTest_21 : decode cX7_isTest 21 = .ok (.goto 79, 3) := by decide +kernel
theorem dX7_isTest_24 : decode cX7_isTest 24 = .ok (.aload_n 0, 1) := by decide +kernel
theorem dX7_isTest_25 : decode cX7_isTest 25 = .ok (.getfield 181, 3) := by decide +kernel
theorem dX7_isTest_28 : decode cX7_isTest 28 = .ok (.ldc2_w 207, 3) := by decide +kernel
theorem dX7_isTest_31 : decode cX7_isTest 31 = .ok (.lcmp, 1) := by decide +kernel
theorem dX7_isTest_32 : decode cX7_isTest 32 = .ok (.ifCond .ne 7, 3) := by decide +kernel
theorem dX7_isTest_35 : decode cX7_isTest 35 = .ok (.iconst 1, 1) := by decide +kernel
theorem dX7_isTest_36 : decode cX7_isTest 36 = .ok (.goto 64, 3) := by decide +kernel
theorem dX7_isTest_39 : decode cX7_isTest 39 = .ok (.aload_n 0, 1) := by decide +kernel
theorem dX7_isTest_40 : decode cX7_isTest 40 = .ok (.getfield 181, 3) := by decide +kernel
theorem dX7_isTest_43 : decode cX7_isTest 43 = .ok (.ldc2_w 209, 3) := by decide +kernel
theorem dX7_isTest_46 : decode cX7_isTest 46 = .ok (.lcmp, 1) := by decide +kernel
theorem dX7_isTest_47 : decode cX7_isTest 47 = .ok (.ifCond .ne 7, 3) := by decide +kernel
theorem dX7_isTest_50 : decode cX7_isTest 50 = .ok (.iconst 2, 1) := by decide +kernel
theorem dX7_isTest_51 : decode cX7_isTest 51 = .ok (.goto 49, 3) := by decide +kernel
theorem dX7_isTest_54 : decode cX7_isTest 54 = .ok (.aload_n 0, 1) := by decide +kernel
theorem dX7_isTest_55 : decode cX7_isTest 55 = .ok (.getfield 181, 3) := by decide +kernel
theorem dX7_isTest_58 : decode cX7_isTest 58 = .ok (.ldc2_w 211, 3) := by decide +kernel
theorem dX7_isTest_61 : decode cX7_isTest 61 = .ok (.lcmp, 1) := by decide +kernel
theorem dX7_isTest_62 : decode cX7_isTest 62 = .ok (.ifCond .ne 7, 3) := by decide +kernel
theorem dX7_isTest_65 : decode cX7_isTest 65 = .ok (.iconst 3, 1) := by decide +kernel
theorem dX7_isTest_66 : decode cX7_isTest 66 = .ok (.goto 34, 3) := by decide +kernel
theorem dX7_isTest_69 : decode cX7_isTest 69 = .ok (.aload_n 0, 1) := by decide +kernel
theorem dX7_isTest_70 : decode cX7_isTest 70 = .ok (.getfield 181, 3) := by decide +kernel
theorem dX7_isTest_73 : decode cX7_isTest 73 = .ok (.ldc2_w 213, 3) := by decide +kernel
theorem dX7_isTest_76 : decode cX7_isTest 76 = .ok (.lcmp, 1) := by decide +kernel
theorem dX7_isTest_77 : decode cX7_isTest 77 = .ok (.ifCond .ne 7, 3) := by decide +kernel
theorem dX7_isTest_80 : decode cX7_isTest 80 = .ok (.iconst 4, 1) := by decide +kernel
theorem dX7_isTest_81 : decode cX7_isTest 81 = .ok (.goto 19, 3) := by decide +kernel
theorem dX7_isTest_84 : decode cX7_isTest 84 = .ok (.aload_n 0, 1) := by decide +kernel
theorem dX7_isTest_85 : decode cX7_isTest 85 = .ok (.getfield 181, 3) := by decide +kernel
theorem dX7_isTest_88 : decode cX7_isTest 88 = .ok (.ldc2_w 215, 3) := by decide +kernel
theorem dX7_isTest_91 : decode cX7_isTest 91 = .ok (.lcmp, 1) := by decide +kernel
theorem dX7_isTest_92 : decode cX7_isTest 92 = .ok (.ifCond .ne 7, 3) := by decide +kernel
theorem dX7_isTest_95 : decode cX7_isTest 95 = .ok (.iconst 5, 1) := by decide +kernel
theorem dX7_isTest_96 : decode cX7_isTest 96 = .ok (.goto 4, 3) := by decide +kernel
theorem dX7_isTest_99 : decode cX7_isTest 99 = .ok (.iconst (-1), 1) := by decide +kernel
theorem dX7_isTest_100 : decode cX7_isTest 100 = .ok (.iastore, 1) := by decide +kernel
theorem dX7_isTest_101 : decode cX7_isTest 101 = .ok (.aload_n 0, 1) := by decide +kernel
theorem dX7_isTest_102 : decode cX7_isTest 102 = .ok (.getfield 56, 3) := by decide +kernel
theorem dX7_isTest_105 : decode cX7_isTest 105 = .ok (.iload_n 1, 1) := by decide +kernel
theorem dX7_isTest_106 : decode cX7_isTest 106 = .ok (.iaload, 1) := by decide +kernel
theorem dX7_isTest_107 : decode cX7_isTest 107 = .ok (.iconst (-1), 1) := by decide +kernel
theorem dX7_isTest_108 : decode cX7_isTest 108 = .ok (.if_icmp .ne 8, 3) := by decide +kernel
theorem dX7_isTest_111 : decode cX7_isTest 111 = .ok (.aload_n 0, 1) := by decide +kernel
theorem dX7_isTest_112 : decode cX7_isTest 112 = .ok (.invokevirtual 201, 3) := by decide +kernel
theorem dX7_isTest_115 : decode cX7_isTest 115 = .ok (.ireturn, 1) := by decide +kernel
theorem dX7_isTest_116 : decode cX7_isTest 116 = .ok (.aload_n 0, 1) := by decide +kernel
theorem dX7_isTest_117 : decode cX7_isTest 117 = .ok (.invokevirtual 198, 3) := by decide +kernel
theorem dX7_isTest_120 : decode cX7_isTest 120 = .ok (.aload_n 0, 1) := by decide +kernel
theorem dX7_isTest_121 : decode cX7_isTest 121 = .ok (.getfield 181, 3) := by decide +kernel
theorem dX7_isTest_124 : decode cX7_isTest 124 = .ok (.ldc2_w 217, 3) := by decide +kernel
theorem dX7_isTest_127 : decode cX7_isTest 127 = .ok (.lcmp, 1) := by decide +kernel
theorem dX7_isTest_128 : decode cX7_isTest 128 = .ok (.ifCond .eq 19, 3) := by decide +kernel
theorem dX7_isTest_131 : decode cX7_isTest 131 = .ok (.aload_n 0, 1) := by decide +kernel
theorem dX7_isTest_132 : decode cX7_isTest 132 = .ok (.getfield 181, 3) := by decide +kernel
theorem dX7_isTest_135 : decode cX7_isTest 135 = .ok (.ldc2_w 219, 3) := by decide +kernel
theorem dX7_isTest_138 : decode cX7_isTest 138 = .ok (.lcmp, 1) := by decide +kernel
theorem dX7_isTest_139 : decode cX7_isTest 139 = .ok (.ifCond .eq 8, 3) := by decide +kernel
theorem dX7_isTest_142 : decode cX7_isTest 142 = .ok (.aload_n 0, 1) := by decide +kernel
theorem dX7_isTest_143 : decode cX7_isTest 143 = .ok (.invokevirtual 201, 3) := by decide +kernel
theorem dX7_isTest_146 : decode cX7_isTest 146 = .ok (.ireturn, 1) := by decide +kernel
theorem dX7_isTest_147 : decode cX7_isTest 147 = .ok (.aload_n 0, 1) := by decide +kernel
theorem dX7_isTest_148 : decode cX7_isTest 148 = .ok (.getfield 56, 3) := by decide +kernel
theorem dX7_isTest_151 : decode cX7_isTest 151 = .ok (.iload_n 1, 1) := by decide +kernel
theorem dX7_isTest_152 : decode cX7_isTest 152 = .ok (.iconst 1, 1) := by decide +kernel
theorem dX7_isTest_153 : decode cX7_isTest 153 = .ok (.iadd, 1) := by decide +kernel
theorem dX7_isTest_154 : decode cX7_isTest 154 = .ok (.aload_n 0, 1) := by decide +kernel
theorem dX7_isTest_155 : decode cX7_isTest 155 = .ok (.getfield 181, 3) := by decide +kernel
theorem dX7_isTest_158 : decode cX7_isTest 158 = .ok (.ldc2_w 219, 3) := by decide +kernel
theorem dX7_isTest_161 : decode cX7_isTest 161 = .ok (.lcmp, 1) := by decide +kernel
theorem dX7_isTest_162 : decode cX7_isTest 162 = .ok (.ifCond .ne 7, 3) := by decide +kernel
theorem dX7_isTest_165 : decode cX7_isTest 165 = .ok (.iconst 1, 1) := by decide +kernel
theorem dX7_isTest_166 : decode cX7_isTest 166 = .ok (.goto 4, 3) := by decide +kernel
theorem dX7_isTest_169 : decode cX7_isTest 169 = .ok (.iconst 0, 1) := by decide +kernel
theorem dX7_isTest_170 : decode cX7_isTest 170 = .ok (.iastore, 1) := by decide +kernel
theorem dX7_isTest_171 : decode cX7_isTest 171 = .ok (.aload_n 0, 1) := by decide +kernel
theorem dX7_isTest_172 : decode cX7_isTest 172 = .ok (.iload_n 1, 1) := by decide +kernel
theorem dX7_isTest_173 : decode cX7_isTest 173 = .ok (.iconst 2, 1) := by decide +kernel
theorem dX7_isTest_174 : decode cX7_isTest 174 = .ok (.iadd, 1) := by decide +kernel
theorem dX7_isTest_175 : decode cX7_isTest 175 = .ok (.bipush 99, 2) := by decide +kernel
theorem dX7_isTest_177 : decode cX7_isTest 177 = .ok (.invokevirtual 221, 3) := by decide +kernel
theorem dX7_isTest_180 : decode cX7_isTest 180 = .ok (.ireturn, 1) := by decide +kernel
def fX7_isTest (σ : St) (a0 : Nat) (a1 : Int32) : Option (Int32 × St) :=
  o_k σ a0 5 <|
  (fX7_nextToken σ a0).bind fun σ1 =>
  o_gR σ1 a0 5 27 fun r2 =>
  o_gL σ1 a0 5 22 fun y3 =>
  jn (fun (x9 : Int32) =>
    o_sI σ1 r2 0 a1 x9 fun σ10 =>
    o_gR σ10 a0 5 27 fun r11 =>
    o_aI σ10 r11 0 a1 fun x12 =>
    if x12 = ((-1)) then
      o_k σ10 a0 5 <|
      (fX7_fails σ10 a0).bind <| un2 fun x24 σ25 =>
      o_bz x24 <| some (x24, σ25)
    else
    o_k σ10 a0 5 <|
    (fX7_nextToken σ10 a0).bind fun σ13 =>
    o_gL σ13 a0 5 22 fun y14 =>
    jn (fun (_ : Unit) =>
      o_gR σ13 a0 5 27 fun r18 =>
      o_gL σ13 a0 5 22 fun y19 =>
      jn (fun (x20 : Int32) =>
        o_sI σ13 r18 0 (a1 + 1) x20 fun σ21 =>
        o_k σ21 a0 5 <|
        (fX7_isNumber σ21 a0 (a1 + 2) 99).bind <| un2 fun x22 σ23 =>
        o_bz x22 <| some (x22, σ23)) fun j170 =>
      if (lg_cmp y19 582341) = 0 then
        j170 1
      else
      j170 0) fun j147 =>
    if (lg_cmp y14 1170473) = 0 then
      j147 ()
    else
    o_gL σ13 a0 5 22 fun y15 =>
    if (lg_cmp y15 582341) = 0 then
      j147 ()
    else
    o_k σ13 a0 5 <|
    (fX7_fails σ13 a0).bind <| un2 fun x16 σ17 =>
    o_bz x16 <| some (x16, σ17)) fun j100 =>
  if (lg_cmp y3 283437703) = 0 then
    j100 0
  else
  o_gL σ1 a0 5 22 fun y4 =>
  if (lg_cmp y4 291417229) = 0 then
    j100 1
  else
  o_gL σ1 a0 5 22 fun y5 =>
  if (lg_cmp y5 48686) = 0 then
    j100 2
  else
  o_gL σ1 a0 5 22 fun y6 =>
  if (lg_cmp y6 126232335) = 0 then
    j100 3
  else
  o_gL σ1 a0 5 22 fun y7 =>
  if (lg_cmp y7 247664) = 0 then
    j100 4
  else
  o_gL σ1 a0 5 22 fun y8 =>
  if (lg_cmp y8 168984) = 0 then
    j100 5
  else
  j100 ((-1))

set_option maxHeartbeats 4000000 in
theorem wX7_isTest {l : Launch} {s0 : State} {A0 : Array Value} {D : va_G} {ac : Nat → ClassId} (G : Gl s0 A0 D ac) {σ : St} {a0 : Nat} {a1 : Int32} {v : Int32} {σ' : St} (hf : fX7_isTest σ a0 a1 = some (v, σ')) : Met l yX7_isTest (ws_ yX7_isTest cX7_isTest 2 (some (.boolean))) ({ frames := 3, cells := 0, slots := 0, locals := 64 } : Room) (Pn s0 D ac [.ref a0, .int a1] σ) (Qn s0 D ac (some (.int v)) σ') 0 0 (fr s0) := by
  refine x_met (by decide) (Nat.le_of_ble_eq_true rfl) ?_
  intro p e s m args below meth c ls C hnm h hl
  have C : Cx s0 p s m args meth c cX7_isTest 2 "HutForShowModel" (some (.boolean)) := C
  have hx := C.1
  have hb := C.2.1
  have hl : lv_has ls 2 [(0, .ref a0), (1, .int a1)] := hl
  unfold fX7_isTest at hf
  refine lv_aload_n hx hb dX7_isTest_0 rfl (lv_at hl 0 rfl) ?_
  obtain ⟨hk, hf⟩ := k_of hf
  obtain ⟨σ1, hc, hf⟩ := hf_b hf
  refine x_cV (q := (RX7, TX7, 50)) (rest := []) (As := []) (n := 0) (ov := none) G C h (wX7_nextToken G hc) hk rfl (lw_V q1298 q1300 qs33 q61 q1301) (by decide +kernel) ⟨Nat.le_of_ble_eq_true rfl, Nat.le_of_ble_eq_true rfl⟩ rfl rfl rfl hl.1 rfl (Nat.le_of_ble_eq_true rfl) dX7_isTest_1 ⟨(Nat.le_of_ble_eq_true rfl), (Nat.le_of_ble_eq_true rfl)⟩ (fun H locs h => ?_)
  refine lv_aload_n hx hb dX7_isTest_4 rfl (lv_at hl 0 rfl) ?_
  refine x_gR (q := (RX7, TX7, 50)) (j := 27) G C h rfl (by decide) (fun _ _ _ => rfl) (lk C q1083) (fun _ z => z) dX7_isTest_5 hf (fun r2 hf => ?_)
  refine lv_iload_n hx hb dX7_isTest_8 rfl (lv_at hl 1 rfl) ?_
  refine lv_aload_n hx hb dX7_isTest_9 rfl (lv_at hl 0 rfl) ?_
  refine x_gL (q := (RX7, TX7, 50)) (j := 22) G C h rfl (by decide) (fun _ _ _ => rfl) (lk C q1078) (fun _ z => z) dX7_isTest_10 hf (fun y3 hf => ?_)
  refine lv_ldc2 (v := 283437703) hx hb C.2.2.2.1 (C.2.2.2.2.1 _ q1326) dX7_isTest_13 ?_
  refine W.lcmp hx hb dX7_isTest_16 ?_
  refine jn_of (P := fun j => ∀ (x9 : Int32), j x9 = some (v, σ') → ∀ (H : Heap) (locs : List Loc) (ls : Array Slot), Hs s0 D ac σ1 H locs → lv_has ls 2 [(0, .ref a0), (1, .int a1)] → W p l e ({ frames := 3, cells := 0, slots := 0, locals := 64 } : Room) s m args below meth c H locs 0 0 (MQ below (Qn s0 D ac (some (.int v)) σ') args s 0 0 (fr s0)) (F0 m 100 ls [.int x9, .int a1, .ref r2])) hf ?_ ?_
  · intro x9 hf H locs ls h hl
    refine x_iast G C h dX7_isTest_100 hf (fun σ10 H locs h hf => ?_)
    refine lv_aload_n hx hb dX7_isTest_101 rfl (lv_at hl 0 rfl) ?_
    refine x_gR (q := (RX7, TX7, 50)) (j := 27) G C h rfl (by decide) (fun _ _ _ => rfl) (lk C q1083) (fun _ z => z) dX7_isTest_102 hf (fun r11 hf => ?_)
    refine lv_iload_n hx hb dX7_isTest_105 rfl (lv_at hl 1 rfl) ?_
    refine x_iald G C h dX7_isTest_106 hf (fun x12 hf => ?_)
    refine lv_iconst (v := (-1)) hx hb dX7_isTest_107 (by decide) ?_
    refine lv_icmp_ne (tgt := 116) hx hb dX7_isTest_108 (by decide) (fun hc => ?_) (fun hc => ?_)
    · have hf := hf_f hc hf
      refine lv_aload_n hx hb dX7_isTest_116 rfl (lv_at hl 0 rfl) ?_
      obtain ⟨hk, hf⟩ := k_of hf
      obtain ⟨σ13, hc, hf⟩ := hf_b hf
      refine x_cV (q := (RX7, TX7, 50)) (rest := []) (As := []) (n := 0) (ov := none) G C h (wX7_nextToken G hc) hk rfl (lw_V q1298 q1300 qs33 q61 q1301) (by decide +kernel) ⟨Nat.le_of_ble_eq_true rfl, Nat.le_of_ble_eq_true rfl⟩ rfl rfl rfl hl.1 rfl (Nat.le_of_ble_eq_true rfl) dX7_isTest_117 ⟨(Nat.le_of_ble_eq_true rfl), (Nat.le_of_ble_eq_true rfl)⟩ (fun H locs h => ?_)
      refine lv_aload_n hx hb dX7_isTest_120 rfl (lv_at hl 0 rfl) ?_
      refine x_gL (q := (RX7, TX7, 50)) (j := 22) G C h rfl (by decide) (fun _ _ _ => rfl) (lk C q1078) (fun _ z => z) dX7_isTest_121 hf (fun y14 hf => ?_)
      refine lv_ldc2 (v := 1170473) hx hb C.2.2.2.1 (C.2.2.2.2.1 _ q1332) dX7_isTest_124 ?_
      refine W.lcmp hx hb dX7_isTest_127 ?_
      refine jn_of (P := fun j => ∀ (u0 : Unit), j u0 = some (v, σ') → ∀ (H : Heap) (locs : List Loc) (ls : Array Slot), Hs s0 D ac σ13 H locs → lv_has ls 2 [(0, .ref a0), (1, .int a1)] → W p l e ({ frames := 3, cells := 0, slots := 0, locals := 64 } : Room) s m args below meth c H locs 0 0 (MQ below (Qn s0 D ac (some (.int v)) σ') args s 0 0 (fr s0)) (F0 m 147 ls [])) hf ?_ ?_
      · intro u0 hf H locs ls h hl
        refine lv_aload_n hx hb dX7_isTest_147 rfl (lv_at hl 0 rfl) ?_
        refine x_gR (q := (RX7, TX7, 50)) (j := 27) G C h rfl (by decide) (fun _ _ _ => rfl) (lk C q1083) (fun _ z => z) dX7_isTest_148 hf (fun r18 hf => ?_)
        refine lv_iload_n hx hb dX7_isTest_151 rfl (lv_at hl 1 rfl) ?_
        refine lv_iconst (v := 1) hx hb dX7_isTest_152 (by decide) ?_
        refine lv_iadd hx hb dX7_isTest_153 ?_
        refine lv_aload_n hx hb dX7_isTest_154 rfl (lv_at hl 0 rfl) ?_
        refine x_gL (q := (RX7, TX7, 50)) (j := 22) G C h rfl (by decide) (fun _ _ _ => rfl) (lk C q1078) (fun _ z => z) dX7_isTest_155 hf (fun y19 hf => ?_)
        refine lv_ldc2 (v := 582341) hx hb C.2.2.2.1 (C.2.2.2.2.1 _ q1333) dX7_isTest_158 ?_
        refine W.lcmp hx hb dX7_isTest_161 ?_
        refine jn_of (P := fun j => ∀ (x20 : Int32), j x20 = some (v, σ') → ∀ (H : Heap) (locs : List Loc) (ls : Array Slot), Hs s0 D ac σ13 H locs → lv_has ls 2 [(0, .ref a0), (1, .int a1)] → W p l e ({ frames := 3, cells := 0, slots := 0, locals := 64 } : Room) s m args below meth c H locs 0 0 (MQ below (Qn s0 D ac (some (.int v)) σ') args s 0 0 (fr s0)) (F0 m 170 ls [.int x20, .int (a1 + 1), .ref r18])) hf ?_ ?_
        · intro x20 hf H locs ls h hl
          refine x_iast G C h dX7_isTest_170 hf (fun σ21 H locs h hf => ?_)
          refine lv_aload_n hx hb dX7_isTest_171 rfl (lv_at hl 0 rfl) ?_
          refine lv_iload_n hx hb dX7_isTest_172 rfl (lv_at hl 1 rfl) ?_
          refine lv_iconst (v := 2) hx hb dX7_isTest_173 (by decide) ?_
          refine lv_iadd hx hb dX7_isTest_174 ?_
          refine lv_bipush (v := 99) hx hb dX7_isTest_175 (by decide) ?_
          obtain ⟨hk, hf⟩ := k_of hf
          obtain ⟨⟨x22, σ23⟩, hc, hf⟩ := hf_b hf
          have hf := hf_u2 hf
          refine x_cV (q := (RX7, TX7, 50)) (rest := []) (As := [.int (a1 + 2), .int 99]) (n := 2) (ov := (some (.int x22))) G C h (wX7_isNumber G hc) hk rfl (lw_V q1317 q1319 qs35 q61 q1320) (by decide +kernel) ⟨Nat.le_of_ble_eq_true rfl, Nat.le_of_ble_eq_true rfl⟩ rfl rfl rfl hl.1 rfl (Nat.le_of_ble_eq_true rfl) dX7_isTest_177 ⟨(Nat.le_of_ble_eq_true rfl), (Nat.le_of_ble_eq_true rfl)⟩ (fun H locs h => ?_)
          obtain ⟨hz, hf⟩ := bz_of hf
          cases hf
          refine W.widen (k := 0) (n := 0) (Nat.le_of_ble_eq_true rfl) (Nat.le_of_ble_eq_true rfl) ?_
          exact x_zret C h hz dX7_isTest_180
        intro j170 hj170 hf
        refine lv_if_ne (tgt := 169) hx hb dX7_isTest_162 (by decide) (fun hc => ?_) (fun hc => ?_)
        · have hf := hf_f hc hf
          refine lv_iconst (v := 0) hx hb dX7_isTest_169 (by decide) ?_
          exact hj170 _ hf _ _ _ h (lv_sub hl [0, 1] rfl)
        · have hf := hf_t hc hf
          refine lv_iconst (v := 1) hx hb dX7_isTest_165 (by decide) ?_
          refine lv_goto (tgt := 170) hx hb dX7_isTest_166 (by decide) ?_
          exact hj170 _ hf _ _ _ h (lv_sub hl [0, 1] rfl)
      intro j147 hj147 hf
      refine lv_if_eq (tgt := 147) hx hb dX7_isTest_128 (by decide) (fun hc => ?_) (fun hc => ?_)
      · have hf := hf_t hc hf
        exact hj147 () hf _ _ _ h (lv_sub hl [0, 1] rfl)
      · have hf := hf_f hc hf
        refine lv_aload_n hx hb dX7_isTest_131 rfl (lv_at hl 0 rfl) ?_
        refine x_gL (q := (RX7, TX7, 50)) (j := 22) G C h rfl (by decide) (fun _ _ _ => rfl) (lk C q1078) (fun _ z => z) dX7_isTest_132 hf (fun y15 hf => ?_)
        refine lv_ldc2 (v := 582341) hx hb C.2.2.2.1 (C.2.2.2.2.1 _ q1333) dX7_isTest_135 ?_
        refine W.lcmp hx hb dX7_isTest_138 ?_
        refine lv_if_eq (tgt := 147) hx hb dX7_isTest_139 (by decide) (fun hc => ?_) (fun hc => ?_)
        · have hf := hf_t hc hf
          exact hj147 () hf _ _ _ h (lv_sub hl [0, 1] rfl)
        · have hf := hf_f hc hf
          refine lv_aload_n hx hb dX7_isTest_142 rfl (lv_at hl 0 rfl) ?_
          obtain ⟨hk, hf⟩ := k_of hf
          obtain ⟨⟨x16, σ17⟩, hc, hf⟩ := hf_b hf
          have hf := hf_u2 hf
          refine x_cV (q := (RX7, TX7, 50)) (rest := []) (As := []) (n := 0) (ov := (some (.int x16))) G C h (wX7_fails G hc) hk rfl (lw_V q1313 q1315 qs34 q61 q1316) (by decide +kernel) ⟨Nat.le_of_ble_eq_true rfl, Nat.le_of_ble_eq_true rfl⟩ rfl rfl rfl hl.1 rfl (Nat.le_of_ble_eq_true rfl) dX7_isTest_143 ⟨(Nat.le_of_ble_eq_true rfl), (Nat.le_of_ble_eq_true rfl)⟩ (fun H locs h => ?_)
          obtain ⟨hz, hf⟩ := bz_of hf
          cases hf
          refine W.widen (k := 0) (n := 0) (Nat.le_of_ble_eq_true rfl) (Nat.le_of_ble_eq_true rfl) ?_
          exact x_zret C h hz dX7_isTest_146
    · have hf := hf_t hc hf
      refine lv_aload_n hx hb dX7_isTest_111 rfl (lv_at hl 0 rfl) ?_
      obtain ⟨hk, hf⟩ := k_of hf
      obtain ⟨⟨x24, σ25⟩, hc, hf⟩ := hf_b hf
      have hf := hf_u2 hf
      refine x_cV (q := (RX7, TX7, 50)) (rest := []) (As := []) (n := 0) (ov := (some (.int x24))) G C h (wX7_fails G hc) hk rfl (lw_V q1313 q1315 qs34 q61 q1316) (by decide +kernel) ⟨Nat.le_of_ble_eq_true rfl, Nat.le_of_ble_eq_true rfl⟩ rfl rfl rfl hl.1 rfl (Nat.le_of_ble_eq_true rfl) dX7_isTest_112 ⟨(Nat.le_of_ble_eq_true rfl), (Nat.le_of_ble_eq_true rfl)⟩ (fun H locs h => ?_)
      obtain ⟨hz, hf⟩ := bz_of hf
      cases hf
      refine W.widen (k := 0) (n := 0) (Nat.le_of_ble_eq_true rfl) (Nat.le_of_ble_eq_true rfl) ?_
      exact x_zret C h hz dX7_isTest_115
  intro j100 hj100 hf
  refine lv_if_ne (tgt := 24) hx hb dX7_isTest_17 (by decide) (fun hc => ?_) (fun hc => ?_)
  · have hf := hf_f hc hf
    refine lv_aload_n hx hb dX7_isTest_24 rfl (lv_at hl 0 rfl) ?_
    refine x_gL (q := (RX7, TX7, 50)) (j := 22) G C h rfl (by decide) (fun _ _ _ => rfl) (lk C q1078) (fun _ z => z) dX7_isTest_25 hf (fun y4 hf => ?_)
    refine lv_ldc2 (v := 291417229) hx hb C.2.2.2.1 (C.2.2.2.2.1 _ q1327) dX7_isTest_28 ?_
    refine W.lcmp hx hb dX7_isTest_31 ?_
    refine lv_if_ne (tgt := 39) hx hb dX7_isTest_32 (by decide) (fun hc => ?_) (fun hc => ?_)
    · have hf := hf_f hc hf
      refine lv_aload_n hx hb dX7_isTest_39 rfl (lv_at hl 0 rfl) ?_
      refine x_gL (q := (RX7, TX7, 50)) (j := 22) G C h rfl (by decide) (fun _ _ _ => rfl) (lk C q1078) (fun _ z => z) dX7_isTest_40 hf (fun y5 hf => ?_)
      refine lv_ldc2 (v := 48686) hx hb C.2.2.2.1 (C.2.2.2.2.1 _ q1328) dX7_isTest_43 ?_
      refine W.lcmp hx hb dX7_isTest_46 ?_
      refine lv_if_ne (tgt := 54) hx hb dX7_isTest_47 (by decide) (fun hc => ?_) (fun hc => ?_)
      · have hf := hf_f hc hf
        refine lv_aload_n hx hb dX7_isTest_54 rfl (lv_at hl 0 rfl) ?_
        refine x_gL (q := (RX7, TX7, 50)) (j := 22) G C h rfl (by decide) (fun _ _ _ => rfl) (lk C q1078) (fun _ z => z) dX7_isTest_55 hf (fun y6 hf => ?_)
        refine lv_ldc2 (v := 126232335) hx hb C.2.2.2.1 (C.2.2.2.2.1 _ q1329) dX7_isTest_58 ?_
        refine W.lcmp hx hb dX7_isTest_61 ?_
        refine lv_if_ne (tgt := 69) hx hb dX7_isTest_62 (by decide) (fun hc => ?_) (fun hc => ?_)
        · have hf := hf_f hc hf
          refine lv_aload_n hx hb dX7_isTest_69 rfl (lv_at hl 0 rfl) ?_
          refine x_gL (q := (RX7, TX7, 50)) (j := 22) G C h rfl (by decide) (fun _ _ _ => rfl) (lk C q1078) (fun _ z => z) dX7_isTest_70 hf (fun y7 hf => ?_)
          refine lv_ldc2 (v := 247664) hx hb C.2.2.2.1 (C.2.2.2.2.1 _ q1330) dX7_isTest_73 ?_
          refine W.lcmp hx hb dX7_isTest_76 ?_
          refine lv_if_ne (tgt := 84) hx hb dX7_isTest_77 (by decide) (fun hc => ?_) (fun hc => ?_)
          · have hf := hf_f hc hf
            refine lv_aload_n hx hb dX7_isTest_84 rfl (lv_at hl 0 rfl) ?_
            refine x_gL (q := (RX7, TX7, 50)) (j := 22) G C h rfl (by decide) (fun _ _ _ => rfl) (lk C q1078) (fun _ z => z) dX7_isTest_85 hf (fun y8 hf => ?_)
            refine lv_ldc2 (v := 168984) hx hb C.2.2.2.1 (C.2.2.2.2.1 _ q1331) dX7_isTest_88 ?_
            refine W.lcmp hx hb dX7_isTest_91 ?_
            refine lv_if_ne (tgt := 99) hx hb dX7_isTest_92 (by decide) (fun hc => ?_) (fun hc => ?_)
            · have hf := hf_f hc hf
              refine lv_iconst (v := (-1)) hx hb dX7_isTest_99 (by decide) ?_
              exact hj100 _ hf _ _ _ h (lv_sub hl [0, 1] rfl)
            · have hf := hf_t hc hf
              refine lv_iconst (v := 5) hx hb dX7_isTest_95 (by decide) ?_
              refine lv_goto (tgt := 100) hx hb dX7_isTest_96 (by decide) ?_
              exact hj100 _ hf _ _ _ h (lv_sub hl [0, 1] rfl)
          · have hf := hf_t hc hf
            refine lv_iconst (v := 4) hx hb dX7_isTest_80 (by decide) ?_
            refine lv_goto (tgt := 100) hx hb dX7_isTest_81 (by decide) ?_
            exact hj100 _ hf _ _ _ h (lv_sub hl [0, 1] rfl)
        · have hf := hf_t hc hf
          refine lv_iconst (v := 3) hx hb dX7_isTest_65 (by decide) ?_
          refine lv_goto (tgt := 100) hx hb dX7_isTest_66 (by decide) ?_
          exact hj100 _ hf _ _ _ h (lv_sub hl [0, 1] rfl)
      · have hf := hf_t hc hf
        refine lv_iconst (v := 2) hx hb dX7_isTest_50 (by decide) ?_
        refine lv_goto (tgt := 100) hx hb dX7_isTest_51 (by decide) ?_
        exact hj100 _ hf _ _ _ h (lv_sub hl [0, 1] rfl)
    · have hf := hf_t hc hf
      refine lv_iconst (v := 1) hx hb dX7_isTest_35 (by decide) ?_
      refine lv_goto (tgt := 100) hx hb dX7_isTest_36 (by decide) ?_
      exact hj100 _ hf _ _ _ h (lv_sub hl [0, 1] rfl)
  · have hf := hf_t hc hf
    refine lv_iconst (v := 0) hx hb dX7_isTest_20 (by decide) ?_
    refine lv_goto (tgt := 100) hx hb dX7_isTest_21 (by decide) ?_
    exact hj100 _ hf _ _ _ h (lv_sub hl [0, 1] rfl)

theorem dX7_isHabitLine_0 : decode cX7_isHabitLine 0 = .ok (.aload_n 0, 1) := by decide +kernel
theorem dX7_isHabitLine_1 : decode cX7_isHabitLine 1 = .ok (.invokevirtual 198, 3) := by decide +kernel
theorem dX7_isHabitLine_4 : decode cX7_isHabitLine 4 = .ok (.aload_n 0, 1) := by decide +kernel
theorem dX7_isHabitLine_5 : decode cX7_isHabitLine 5 = .ok (.getfield 56, 3) := by decide +kernel
theorem dX7_isHabitLine_8 : decode cX7_isHabitLine 8 = .ok (.iload_n 1, 1) := by decide +kernel
theorem dX7_isHabitLine_9 : decode cX7_isHabitLine 9 = .ok (.aload_n 0, 1) := by decide +kernel
theorem dX7_isHabitLine_10 : decode cX7_isHabitLine 10 = .ok (.getfield 181, 3) := by decide +kernel
theorem dX7_isHabitLine_13 : decode cX7_isHabitLine 13 = .ok (.ldc2_w 225, 3) := by decide +kernel
theorem dX7_isHabitLine_16 : decode cX7_isHabitLine 16 = .ok (.lcmp, 1) := by decide +kernel
theorem dX7_isHabitLine_17 : decode cX7_isHabitLine 17 = .ok (.ifCond .ne 7, 3) := by decide +kernel
theorem dX7_isHabitLine_20 : decode cX7_isHabitLine 20 = .ok (.iconst 0, 1) := by decide +kernel
theorem dX7_isHabitLine_21 : decode cX7_isHabitLine 21 = .ok (.goto 64, 3) := by decide +kernel
theorem dX7_isHabitLine_24 : decode cX7_isHabitLine 24 = .ok (.aload_n 0, 1) := by decide +kernel
theorem dX7_isHabitLine_25 : decode cX7_isHabitLine 25 = .ok (.getfield 181, 3) := by decide +kernel
theorem dX7_isHabitLine_28 : decode cX7_isHabitLine 28 = .ok (.ldc2_w 227, 3) := by decide +kernel
theorem dX7_isHabitLine_31 : decode cX7_isHabitLine 31 = .ok (.lcmp, 1) := by decide +kernel
theorem dX7_isHabitLine_32 : decode cX7_isHabitLine 32 = .ok (.ifCond .ne 7, 3) := by decide +kernel
theorem dX7_isHabitLine_35 : decode cX7_isHabitLine 35 = .ok (.iconst 1, 1) := by decide +kernel
theorem dX7_isHabitLine_36 : decode cX7_isHabitLine 36 = .ok (.goto 49, 3) := by decide +kernel
theorem dX7_isHabitLine_39 : decode cX7_isHabitLine 39 = .ok (.aload_n 0, 1) := by decide +kernel
theorem dX7_isHabitLine_40 : decode cX7_isHabitLine 40 = .ok (.getfield 181, 3) := by decide +kernel
theorem dX7_isHabitLine_43 : decode cX7_isHabitLine 43 = .ok (.ldc2_w 229, 3) := by decide +kernel
theorem dX7_isHabitLine_46 : decode cX7_isHabitLine 46 = .ok (.lcmp, 1) := by decide +kernel
theorem dX7_isHabitLine_47 : decode cX7_isHabitLine 47 = .ok (.ifCond .ne 7, 3) := by decide +kernel
theorem dX7_isHabitLine_50 : decode cX7_isHabitLine 50 = .ok (.iconst 2, 1) := by decide +kernel
theorem dX7_isHabitLine_51 : decode cX7_isHabitLine 51 = .ok (.goto 34, 3) := by decide +kernel
theorem dX7_isHabitLine_54 : decode cX7_isHabitLine 54 = .ok (.aload_n 0, 1) := by decide +kernel
theorem dX7_isHabitLine_55 : decode cX7_isHabitLine 55 = .ok (.getfield 181, 3) := by decide +kernel
theorem dX7_isHabitLine_58 : decode cX7_isHabitLine 58 = .ok (.ldc2_w 231, 3) := by decide +kernel
theorem dX7_isHabitLine_61 : decode cX7_isHabitLine 61 = .ok (.lcmp, 1) := by decide +kernel
theorem dX7_isHabitLine_62 : decode cX7_isHabitLine 62 = .ok (.ifCond .ne 7, 3) := by decide +kernel
theorem dX7_isHabitLine_65 : decode cX7_isHabitLine 65 = .ok (.iconst 3, 1) := by decide +kernel
theorem dX7_isHabitLine_66 : decode cX7_isHabitLine 66 = .ok (.goto 19, 3) := by decide +kernel
theorem dX7_isHabitLine_69 : decode cX7_isHabitLine 69 = .ok (.aload_n 0, 1) := by decide +kernel
theorem dX7_isHabitLine_70 : decode cX7_isHabitLine 70 = .ok (.getfield 181, 3) := by decide +kernel
theorem dX7_isHabitLine_73 : decode cX7_isHabitLine 73 = .ok (.ldc2_w 233, 3) := by decide +kernel
theorem dX7_isHabitLine_76 : decode cX7_isHabitLine 76 = .ok (.lcmp, 1) := by decide +kernel
theorem dX7_isHabitLine_77 : decode cX7_isHabitLine 77 = .ok (.ifCond .ne 7, 3) := by decide +kernel
theorem dX7_isHabitLine_80 : decode cX7_isHabitLine 80 = .ok (.iconst 4, 1) := by decide +kernel
theorem dX7_isHabitLine_81 : decode cX7_isHabitLine 81 = .ok (.goto 4, 3) := by decide +kernel
theorem dX7_isHabitLine_84 : decode cX7_isHabitLine 84 = .ok (.iconst (-1), 1) := by decide +kernel
theorem dX7_isHabitLine_85 : decode cX7_isHabitLine 85 = .ok (.iastore, 1) := by decide +kernel
theorem dX7_isHabitLine_86 : decode cX7_isHabitLine 86 = .ok (.aload_n 0, 1) := by decide +kernel
theorem dX7_isHabitLine_87 : decode cX7_isHabitLine 87 = .ok (.getfield 56, 3) := by decide +kernel
theorem dX7_isHabitLine_90 : decode cX7_isHabitLine 90 = .ok (.iload_n 1, 1) := by decide +kernel
theorem dX7_isHabitLine_91 : decode cX7_isHabitLine 91 = .ok (.iconst 1, 1) := by decide +kernel
theorem dX7_isHabitLine_92 : decode cX7_isHabitLine 92 = .ok (.iadd, 1) := by decide +kernel
theorem dX7_isHabitLine_93 : decode cX7_isHabitLine 93 = .ok (.iconst 0, 1) := by decide +kernel
theorem dX7_isHabitLine_94 : decode cX7_isHabitLine 94 = .ok (.iastore, 1) := by decide +kernel
theorem dX7_isHabitLine_95 : decode cX7_isHabitLine 95 = .ok (.iconst 0, 1) := by decide +kernel
theorem dX7_isHabitLine_96 : decode cX7_isHabitLine 96 = .ok (.istore_n 2, 1) := by decide +kernel
theorem dX7_isHabitLine_97 : decode cX7_isHabitLine 97 = .ok (.iload_n 2, 1) := by decide +kernel
theorem dX7_isHabitLine_98 : decode cX7_isHabitLine 98 = .ok (.iconst 3, 1) := by decide +kernel
theorem dX7_isHabitLine_99 : decode cX7_isHabitLine 99 = .ok (.if_icmp .ge 22, 3) := by decide +kernel
theorem dX7_isHabitLine_102 : decode cX7_isHabitLine 102 = .ok (.aload_n 0, 1) := by decide +kernel
theorem dX7_isHabitLine_103 : decode cX7_isHabitLine 103 = .ok (.getfield 56, 3) := by decide +kernel
theorem dX7_isHabitLine_106 : decode cX7_isHabitLine 106 = .ok (.iload_n 1, 1) := by decide +kernel
theorem dX7_isHabitLine_107 : decode cX7_isHabitLine 107 = .ok (.iconst 3, 1) := by decide +kernel
theorem dX7_isHabitLine_108 : decode cX7_isHabitLine 108 = .ok (.iadd, 1) := by decide +kernel
theorem dX7_isHabitLine_109 : decode cX7_isHabitLine 109 = .ok (.iconst 3, 1) := by decide +kernel
theorem dX7_isHabitLine_110 : decode cX7_isHabitLine 110 = .ok (.iload_n 2, 1) := by decide +kernel
theorem dX7_isHabitLine_111 : decode cX7_isHabitLine 111 = .ok (.imul, 1) := by decide +kernel
theorem dX7_isHabitLine_112 : decode cX7_isHabitLine 112 = .ok (.iadd, 1) := by decide +kernel
theorem dX7_isHabitLine_113 : decode cX7_isHabitLine 113 = .ok (.iconst (-1), 1) := by decide +kernel
theorem dX7_isHabitLine_114 : decode cX7_isHabitLine 114 = .ok (.iastore, 1) := by decide +kernel
theorem dX7_isHabitLine_115 : decode cX7_isHabitLine 115 = .ok (.iinc 2 1, 3) := by decide +kernel
theorem dX7_isHabitLine_118 : decode cX7_isHabitLine 118 = .ok (.goto (-21), 3) := by decide +kernel
theorem dX7_isHabitLine_121 : decode cX7_isHabitLine 121 = .ok (.aload_n 0, 1) := by decide +kernel
theorem dX7_isHabitLine_122 : decode cX7_isHabitLine 122 = .ok (.getfield 56, 3) := by decide +kernel
theorem dX7_isHabitLine_125 : decode cX7_isHabitLine 125 = .ok (.iload_n 1, 1) := by decide +kernel
theorem dX7_isHabitLine_126 : decode cX7_isHabitLine 126 = .ok (.iaload, 1) := by decide +kernel
theorem dX7_isHabitLine_127 : decode cX7_isHabitLine 127 = .ok (.iconst (-1), 1) := by decide +kernel
theorem dX7_isHabitLine_128 : decode cX7_isHabitLine 128 = .ok (.if_icmp .ne 8, 3) := by decide +kernel
theorem dX7_isHabitLine_131 : decode cX7_isHabitLine 131 = .ok (.aload_n 0, 1) := by decide +kernel
theorem dX7_isHabitLine_132 : decode cX7_isHabitLine 132 = .ok (.invokevirtual 201, 3) := by decide +kernel
theorem dX7_isHabitLine_135 : decode cX7_isHabitLine 135 = .ok (.ireturn, 1) := by decide +kernel
theorem dX7_isHabitLine_136 : decode cX7_isHabitLine 136 = .ok (.aload_n 0, 1) := by decide +kernel
theorem dX7_isHabitLine_137 : decode cX7_isHabitLine 137 = .ok (.getfield 56, 3) := by decide +kernel
theorem dX7_isHabitLine_140 : decode cX7_isHabitLine 140 = .ok (.iload_n 1, 1) := by decide +kernel
theorem dX7_isHabitLine_141 : decode cX7_isHabitLine 141 = .ok (.iaload, 1) := by decide +kernel
theorem dX7_isHabitLine_142 : decode cX7_isHabitLine 142 = .ok (.iconst 4, 1) := by decide +kernel
theorem dX7_isHabitLine_143 : decode cX7_isHabitLine 143 = .ok (.if_icmp .ne 16, 3) := by decide +kernel
theorem dX7_isHabitLine_146 : decode cX7_isHabitLine 146 = .ok (.aload_n 0, 1) := by decide +kernel
theorem dX7_isHabitLine_147 : decode cX7_isHabitLine 147 = .ok (.iload_n 1, 1) := by decide +kernel
theorem dX7_isHabitLine_148 : decode cX7_isHabitLine 148 = .ok (.iconst 1, 1) := by decide +kernel
theorem dX7_isHabitLine_149 : decode cX7_isHabitLine 149 = .ok (.iadd, 1) := by decide +kernel
theorem dX7_isHabitLine_150 : decode cX7_isHabitLine 150 = .ok (.iconst 5, 1) := by decide +kernel
theorem dX7_isHabitLine_151 : decode cX7_isHabitLine 151 = .ok (.invokevirtual 221, 3) := by decide +kernel
theorem dX7_isHabitLine_154 : decode cX7_isHabitLine 154 = .ok (.ifCond .ne 5, 3) := by decide +kernel
theorem dX7_isHabitLine_157 : decode cX7_isHabitLine 157 = .ok (.iconst 0, 1) := by decide +kernel
theorem dX7_isHabitLine_158 : decode cX7_isHabitLine 158 = .ok (.ireturn, 1) := by decide +kernel
theorem dX7_isHabitLine_159 : decode cX7_isHabitLine 159 = .ok (.aload_n 0, 1) := by decide +kernel
theorem dX7_isHabitLine_160 : decode cX7_isHabitLine 160 = .ok (.invokevirtual 198, 3) := by decide +kernel
theorem dX7_isHabitLine_163 : decode cX7_isHabitLine 163 = .ok (.aload_n 0, 1) := by decide +kernel
theorem dX7_isHabitLine_164 : decode cX7_isHabitLine 164 = .ok (.getfield 181, 3) := by decide +kernel
theorem dX7_isHabitLine_167 : decode cX7_isHabitLine 167 = .ok (.ldc2_w 235, 3) := by decide +kernel
theorem dX7_isHabitLine_170 : decode cX7_isHabitLine 170 = .ok (.lcmp, 1) := by decide +kernel
theorem dX7_isHabitLine_171 : decode cX7_isHabitLine 171 = .ok (.ifCond .ne 7, 3) := by decide +kernel
theorem dX7_isHabitLine_174 : decode cX7_isHabitLine 174 = .ok (.iconst 1, 1) := by decide +kernel
theorem dX7_isHabitLine_175 : decode cX7_isHabitLine 175 = .ok (.goto 4, 3) := by decide +kernel
theorem dX7_isHabitLine_178 : decode cX7_isHabitLine 178 = .ok (.iconst 0, 1) := by decide +kernel
theorem dX7_isHabitLine_179 : decode cX7_isHabitLine 179 = .ok (.istore_n 2, 1) := by decide +kernel
theorem dX7_isHabitLine_180 : decode cX7_isHabitLine 180 = .ok (.iconst 0, 1) := by decide +kernel
theorem dX7_isHabitLine_181 : decode cX7_isHabitLine 181 = .ok (.istore_n 3, 1) := by decide +kernel
theorem dX7_isHabitLine_182 : decode cX7_isHabitLine 182 = .ok (.iload_n 3, 1) := by decide +kernel
theorem dX7_isHabitLine_183 : decode cX7_isHabitLine 183 = .ok (.iconst 3, 1) := by decide +kernel
theorem dX7_isHabitLine_184 : decode cX7_isHabitLine 184 = .ok (.if_icmp .ge 50, 3) := by decide +kernel
theorem dX7_isHabitLine_187 : decode cX7_isHabitLine 187 = .ok (.iload_n 2, 1) := by decide +kernel
theorem dX7_isHabitLine_188 : decode cX7_isHabitLine 188 = .ok (.ifCond .eq 46, 3) := by decide +kernel
theorem dX7_isHabitLine_191 : decode cX7_isHabitLine 191 = .ok (.aload_n 0, 1) := by decide +kernel
theorem dX7_isHabitLine_192 : decode cX7_isHabitLine 192 = .ok (.iload_n 1, 1) := by decide +kernel
theorem dX7_isHabitLine_193 : decode cX7_isHabitLine 193 = .ok (.iconst 3, 1) := by decide +kernel
theorem dX7_isHabitLine_194 : decode cX7_isHabitLine 194 = .ok (.iadd, 1) := by decide +kernel
theorem dX7_isHabitLine_195 : decode cX7_isHabitLine 195 = .ok (.iconst 3, 1) := by decide +kernel
theorem dX7_isHabitLine_196 : decode cX7_isHabitLine 196 = .ok (.iload_n 3, 1) := by decide +kernel
theorem dX7_isHabitLine_197 : decode cX7_isHabitLine 197 = .ok (.imul, 1) := by decide +kernel
theorem dX7_isHabitLine_198 : decode cX7_isHabitLine 198 = .ok (.iadd, 1) := by decide +kernel
theorem dX7_isHabitLine_199 : decode cX7_isHabitLine 199 = .ok (.invokevirtual 237, 3) := by decide +kernel
theorem dX7_isHabitLine_202 : decode cX7_isHabitLine 202 = .ok (.ifCond .ne 5, 3) := by decide +kernel
theorem dX7_isHabitLine_205 : decode cX7_isHabitLine 205 = .ok (.iconst 0, 1) := by decide +kernel
theorem dX7_isHabitLine_206 : decode cX7_isHabitLine 206 = .ok (.ireturn, 1) := by decide +kernel
theorem dX7_isHabitLine_207 : decode cX7_isHabitLine 207 = .ok (.aload_n 0, 1) := by decide +kernel
theorem dX7_isHabitLine_208 : decode cX7_isHabitLine 208 = .ok (.invokevirtual 198, 3) := by decide +kernel
theorem dX7_isHabitLine_211 : decode cX7_isHabitLine 211 = .ok (.aload_n 0, 1) := by decide +kernel
theorem dX7_isHabitLine_212 : decode cX7_isHabitLine 212 = .ok (.getfield 181, 3) := by decide +kernel
theorem dX7_isHabitLine_215 : decode cX7_isHabitLine 215 = .ok (.ldc2_w 240, 3) := by decide +kernel
theorem dX7_isHabitLine_218 : decode cX7_isHabitLine 218 = .ok (.lcmp, 1) := by decide +kernel
theorem dX7_isHabitLine_219 : decode cX7_isHabitLine 219 = .ok (.ifCond .ne 7, 3) := by decide +kernel
theorem dX7_isHabitLine_222 : decode cX7_isHabitLine 222 = .ok (.iconst 1, 1) := by decide +kernel
theorem dX7_isHabitLine_223 : decode cX7_isHabitLine 223 = .ok (.goto 4, 3) := by decide +kernel
theorem dX7_isHabitLine_226 : decode cX7_isHabitLine 226 = .ok (.iconst 0, 1) := by decide +kernel
theorem dX7_isHabitLine_227 : decode cX7_isHabitLine 227 = .ok (.istore_n 2, 1) := by decide +kernel
theorem dX7_isHabitLine_228 : decode cX7_isHabitLine 228 = .ok (.iinc 3 1, 3) := by decide +kernel
theorem dX7_isHabitLine_231 : decode cX7_isHabitLine 231 = .ok (.goto (-49), 3) := by decide +kernel
theorem dX7_isHabitLine_234 : decode cX7_isHabitLine 234 = .ok (.iconst 1, 1) := by decide +kernel
theorem dX7_isHabitLine_235 : decode cX7_isHabitLine 235 = .ok (.ireturn, 1) := by decide +kernel
def lX7_isHabitLine_97 (a0 : Nat) (a1 : Int32) (σ12 : St) (x13 : Int32) : Option ((St × Int32) ⊕ (St)) :=
  if 3 ≤ x13 then
    some (.inr σ12)
  else
  o_gR σ12 a0 5 27 fun r14 =>
  o_sI σ12 r14 0 ((a1 + 3) + (3 * x13)) ((-1)) fun σ15 =>
  some (.inl (σ15, x13 + 1))

def lX7_isHabitLine_182 (a0 : Nat) (a1 : Int32) (σ27 : St) (x28 : Int32) (x29 : Int32) : Option ((St × Int32 × Int32) ⊕ ((St) ⊕ (St))) :=
  if 3 ≤ x29 then
    some (.inr (.inr σ27))
  else
  if x28 = 0 then
    some (.inr (.inr σ27))
  else
  o_k σ27 a0 5 <|
  (fX7_isTest σ27 a0 ((a1 + 3) + (3 * x29))).bind <| un2 fun x30 σ31 =>
  if x30 = 0 then
    some (.inr (.inl σ31))
  else
  o_k σ31 a0 5 <|
  (fX7_nextToken σ31 a0).bind fun σ32 =>
  o_gL σ32 a0 5 22 fun y33 =>
  jn (fun (x34 : Int32) =>
    some (.inl (σ32, x34, x29 + 1))) fun j227 =>
  if (lg_cmp y33 1111) = 0 then
    j227 1
  else
  j227 0

def fX7_isHabitLine (σ : St) (a0 : Nat) (a1 : Int32) : Option (Int32 × St) :=
  o_k σ a0 5 <|
  (fX7_nextToken σ a0).bind fun σ1 =>
  o_gR σ1 a0 5 27 fun r2 =>
  o_gL σ1 a0 5 22 fun y3 =>
  jn (fun (x8 : Int32) =>
    o_sI σ1 r2 0 a1 x8 fun σ9 =>
    o_gR σ9 a0 5 27 fun r10 =>
    o_sI σ9 r10 0 (a1 + 1) 0 fun σ11 =>
    (loopF fuel (fun z => lX7_isHabitLine_97 a0 a1 z.1 z.2) (σ11, 0)).bind <| fun σ16 =>
    o_gR σ16 a0 5 27 fun r17 =>
    o_aI σ16 r17 0 a1 fun x18 =>
    if x18 = ((-1)) then
      o_k σ16 a0 5 <|
      (fX7_fails σ16 a0).bind <| un2 fun x37 σ38 =>
      o_bz x37 <| some (x37, σ38)
    else
    o_gR σ16 a0 5 27 fun r19 =>
    o_aI σ16 r19 0 a1 fun x20 =>
    jn (fun (σ23 : St) =>
      o_k σ23 a0 5 <|
      (fX7_nextToken σ23 a0).bind fun σ24 =>
      o_gL σ24 a0 5 22 fun y25 =>
      jn (fun (x26 : Int32) =>
        (loopF fuel (fun z => lX7_isHabitLine_182 a0 a1 z.1 z.2.1 z.2.2) (σ24, x26, 0)).bind <| sm (  fun σ35 =>
          some (0, σ35)) <| fun σ36 =>
        some (1, σ36)) fun j179 =>
      if (lg_cmp y25 458690) = 0 then
        j179 1
      else
      j179 0) fun j159 =>
    if x20 = 4 then
      o_k σ16 a0 5 <|
      (fX7_isNumber σ16 a0 (a1 + 1) 5).bind <| un2 fun x21 σ22 =>
      if x21 = 0 then
        some (0, σ22)
      else
      j159 σ22
    else
    j159 σ16) fun j85 =>
  if (lg_cmp y3 4134649) = 0 then
    j85 0
  else
  o_gL σ1 a0 5 22 fun y4 =>
  if (lg_cmp y4 259906) = 0 then
    j85 1
  else
  o_gL σ1 a0 5 22 fun y5 =>
  if (lg_cmp y5 125041) = 0 then
    j85 2
  else
  o_gL σ1 a0 5 22 fun y6 =>
  if (lg_cmp y6 121882) = 0 then
    j85 3
  else
  o_gL σ1 a0 5 22 fun y7 =>
  if (lg_cmp y7 355270) = 0 then
    j85 4
  else
  j85 ((-1))

set_option maxHeartbeats 4000000 in
theorem wX7_isHabitLine {l : Launch} {s0 : State} {A0 : Array Value} {D : va_G} {ac : Nat → ClassId} (G : Gl s0 A0 D ac) {σ : St} {a0 : Nat} {a1 : Int32} {v : Int32} {σ' : St} (hf : fX7_isHabitLine σ a0 a1 = some (v, σ')) : Met l yX7_isHabitLine (ws_ yX7_isHabitLine cX7_isHabitLine 4 (some (.boolean))) ({ frames := 4, cells := 0, slots := 0, locals := 85 } : Room) (Pn s0 D ac [.ref a0, .int a1] σ) (Qn s0 D ac (some (.int v)) σ') 0 0 (fr s0) := by
  refine x_met (by decide) (Nat.le_of_ble_eq_true rfl) ?_
  intro p e s m args below meth c ls C hnm h hl
  have C : Cx s0 p s m args meth c cX7_isHabitLine 4 "HutForShowModel" (some (.boolean)) := C
  have hx := C.1
  have hb := C.2.1
  have hl : lv_has ls 4 [(0, .ref a0), (1, .int a1)] := hl
  unfold fX7_isHabitLine at hf
  refine lv_aload_n hx hb dX7_isHabitLine_0 rfl (lv_at hl 0 rfl) ?_
  obtain ⟨hk, hf⟩ := k_of hf
  obtain ⟨σ1, hc, hf⟩ := hf_b hf
  refine x_cV (q := (RX7, TX7, 50)) (rest := []) (As := []) (n := 0) (ov := none) G C h (wX7_nextToken G hc) hk rfl (lw_V q1298 q1300 qs33 q61 q1301) (by decide +kernel) ⟨Nat.le_of_ble_eq_true rfl, Nat.le_of_ble_eq_true rfl⟩ rfl rfl rfl hl.1 rfl (Nat.le_of_ble_eq_true rfl) dX7_isHabitLine_1 ⟨(Nat.le_of_ble_eq_true rfl), (Nat.le_of_ble_eq_true rfl)⟩ (fun H locs h => ?_)
  refine lv_aload_n hx hb dX7_isHabitLine_4 rfl (lv_at hl 0 rfl) ?_
  refine x_gR (q := (RX7, TX7, 50)) (j := 27) G C h rfl (by decide) (fun _ _ _ => rfl) (lk C q1083) (fun _ z => z) dX7_isHabitLine_5 hf (fun r2 hf => ?_)
  refine lv_iload_n hx hb dX7_isHabitLine_8 rfl (lv_at hl 1 rfl) ?_
  refine lv_aload_n hx hb dX7_isHabitLine_9 rfl (lv_at hl 0 rfl) ?_
  refine x_gL (q := (RX7, TX7, 50)) (j := 22) G C h rfl (by decide) (fun _ _ _ => rfl) (lk C q1078) (fun _ z => z) dX7_isHabitLine_10 hf (fun y3 hf => ?_)
  refine lv_ldc2 (v := 4134649) hx hb C.2.2.2.1 (C.2.2.2.2.1 _ q1308) dX7_isHabitLine_13 ?_
  refine W.lcmp hx hb dX7_isHabitLine_16 ?_
  refine jn_of (P := fun j => ∀ (x8 : Int32), j x8 = some (v, σ') → ∀ (H : Heap) (locs : List Loc) (ls : Array Slot), Hs s0 D ac σ1 H locs → lv_has ls 4 [(0, .ref a0), (1, .int a1)] → W p l e ({ frames := 4, cells := 0, slots := 0, locals := 85 } : Room) s m args below meth c H locs 0 0 (MQ below (Qn s0 D ac (some (.int v)) σ') args s 0 0 (fr s0)) (F0 m 85 ls [.int x8, .int a1, .ref r2])) hf ?_ ?_
  · intro x8 hf H locs ls h hl
    refine x_iast G C h dX7_isHabitLine_85 hf (fun σ9 H locs h hf => ?_)
    refine lv_aload_n hx hb dX7_isHabitLine_86 rfl (lv_at hl 0 rfl) ?_
    refine x_gR (q := (RX7, TX7, 50)) (j := 27) G C h rfl (by decide) (fun _ _ _ => rfl) (lk C q1083) (fun _ z => z) dX7_isHabitLine_87 hf (fun r10 hf => ?_)
    refine lv_iload_n hx hb dX7_isHabitLine_90 rfl (lv_at hl 1 rfl) ?_
    refine lv_iconst (v := 1) hx hb dX7_isHabitLine_91 (by decide) ?_
    refine lv_iadd hx hb dX7_isHabitLine_92 ?_
    refine lv_iconst (v := 0) hx hb dX7_isHabitLine_93 (by decide) ?_
    refine x_iast G C h dX7_isHabitLine_94 hf (fun σ11 H locs h hf => ?_)
    refine lv_iconst (v := 0) hx hb dX7_isHabitLine_95 (by decide) ?_
    refine lv_istore_n (lv' := [(2, .int 0), (0, .ref a0), (1, .int a1)]) hx hb dX7_isHabitLine_96 rfl hl (by decide) rfl (fun ls hl => ?_)
    obtain ⟨e97, hL, hK⟩ := hf_b hf
    have hE97_0 : ∀ (σ16 : St), σ16 = e97 → ∀  (H : Heap) (locs : List Loc) (ls : Array Slot), Hs s0 D ac σ16 H locs → lv_has ls 4 [(0, .ref a0), (1, .int a1)] → W p l e ({ frames := 4, cells := 0, slots := 0, locals := 85 } : Room) s m args below meth c H locs 0 0 (MQ below (Qn s0 D ac (some (.int v)) σ') args s 0 0 (fr s0)) (F0 m 121 ls []) := by
      intro σ16 he H locs ls h hl
      subst he
      have hf := hK
      refine lv_aload_n hx hb dX7_isHabitLine_121 rfl (lv_at hl 0 rfl) ?_
      refine x_gR (q := (RX7, TX7, 50)) (j := 27) G C h rfl (by decide) (fun _ _ _ => rfl) (lk C q1083) (fun _ z => z) dX7_isHabitLine_122 hf (fun r17 hf => ?_)
      refine lv_iload_n hx hb dX7_isHabitLine_125 rfl (lv_at hl 1 rfl) ?_
      refine x_iald G C h dX7_isHabitLine_126 hf (fun x18 hf => ?_)
      refine lv_iconst (v := (-1)) hx hb dX7_isHabitLine_127 (by decide) ?_
      refine lv_icmp_ne (tgt := 136) hx hb dX7_isHabitLine_128 (by decide) (fun hc => ?_) (fun hc => ?_)
      · have hf := hf_f hc hf
        refine lv_aload_n hx hb dX7_isHabitLine_136 rfl (lv_at hl 0 rfl) ?_
        refine x_gR (q := (RX7, TX7, 50)) (j := 27) G C h rfl (by decide) (fun _ _ _ => rfl) (lk C q1083) (fun _ z => z) dX7_isHabitLine_137 hf (fun r19 hf => ?_)
        refine lv_iload_n hx hb dX7_isHabitLine_140 rfl (lv_at hl 1 rfl) ?_
        refine x_iald G C h dX7_isHabitLine_141 hf (fun x20 hf => ?_)
        refine lv_iconst (v := 4) hx hb dX7_isHabitLine_142 (by decide) ?_
        refine jn_of (P := fun j => ∀ (σ23 : St), j σ23 = some (v, σ') → ∀ (H : Heap) (locs : List Loc) (ls : Array Slot), Hs s0 D ac σ23 H locs → lv_has ls 4 [(0, .ref a0), (1, .int a1)] → W p l e ({ frames := 4, cells := 0, slots := 0, locals := 85 } : Room) s m args below meth c H locs 0 0 (MQ below (Qn s0 D ac (some (.int v)) σ') args s 0 0 (fr s0)) (F0 m 159 ls [])) hf ?_ ?_
        · intro σ23 hf H locs ls h hl
          refine lv_aload_n hx hb dX7_isHabitLine_159 rfl (lv_at hl 0 rfl) ?_
          obtain ⟨hk, hf⟩ := k_of hf
          obtain ⟨σ24, hc, hf⟩ := hf_b hf
          refine x_cV (q := (RX7, TX7, 50)) (rest := []) (As := []) (n := 0) (ov := none) G C h (wX7_nextToken G hc) hk rfl (lw_V q1298 q1300 qs33 q61 q1301) (by decide +kernel) ⟨Nat.le_of_ble_eq_true rfl, Nat.le_of_ble_eq_true rfl⟩ rfl rfl rfl hl.1 rfl (Nat.le_of_ble_eq_true rfl) dX7_isHabitLine_160 ⟨(Nat.le_of_ble_eq_true rfl), (Nat.le_of_ble_eq_true rfl)⟩ (fun H locs h => ?_)
          refine lv_aload_n hx hb dX7_isHabitLine_163 rfl (lv_at hl 0 rfl) ?_
          refine x_gL (q := (RX7, TX7, 50)) (j := 22) G C h rfl (by decide) (fun _ _ _ => rfl) (lk C q1078) (fun _ z => z) dX7_isHabitLine_164 hf (fun y25 hf => ?_)
          refine lv_ldc2 (v := 458690) hx hb C.2.2.2.1 (C.2.2.2.2.1 _ q1321) dX7_isHabitLine_167 ?_
          refine W.lcmp hx hb dX7_isHabitLine_170 ?_
          refine jn_of (P := fun j => ∀ (x26 : Int32), j x26 = some (v, σ') → ∀ (H : Heap) (locs : List Loc) (ls : Array Slot), Hs s0 D ac σ24 H locs → lv_has ls 4 [(0, .ref a0), (1, .int a1)] → W p l e ({ frames := 4, cells := 0, slots := 0, locals := 85 } : Room) s m args below meth c H locs 0 0 (MQ below (Qn s0 D ac (some (.int v)) σ') args s 0 0 (fr s0)) (F0 m 179 ls [.int x26])) hf ?_ ?_
          · intro x26 hf H locs ls h hl
            refine lv_istore_n (lv' := [(2, .int x26), (0, .ref a0), (1, .int a1)]) hx hb dX7_isHabitLine_179 rfl hl (by decide) rfl (fun ls hl => ?_)
            refine lv_iconst (v := 0) hx hb dX7_isHabitLine_180 (by decide) ?_
            refine lv_istore_n (lv' := [(3, .int 0), (2, .int x26), (0, .ref a0), (1, .int a1)]) hx hb dX7_isHabitLine_181 rfl hl (by decide) rfl (fun ls hl => ?_)
            obtain ⟨e182, hL, hK⟩ := hf_b hf
            have hE182_0 : ∀ (σ35 : St), (.inl σ35) = e182 → ∀  (H : Heap) (locs : List Loc) (ls : Array Slot), Hs s0 D ac σ35 H locs → lv_has ls 4 [(0, .ref a0), (1, .int a1)] → W p l e ({ frames := 4, cells := 0, slots := 0, locals := 85 } : Room) s m args below meth c H locs 0 0 (MQ below (Qn s0 D ac (some (.int v)) σ') args s 0 0 (fr s0)) (F0 m 205 ls []) := by
              intro σ35 he H locs ls h hl
              subst he
              have hf := hK
              have hf := hf_sl hf
              refine lv_iconst (v := 0) hx hb dX7_isHabitLine_205 (by decide) ?_
              cases hf
              refine W.widen (k := 0) (n := 0) (Nat.le_of_ble_eq_true rfl) (Nat.le_of_ble_eq_true rfl) ?_
              exact x_zret C h (by decide) dX7_isHabitLine_206
            have hE182_1 : ∀ (σ36 : St), (.inr σ36) = e182 → ∀  (H : Heap) (locs : List Loc) (ls : Array Slot), Hs s0 D ac σ36 H locs → lv_has ls 4 [(0, .ref a0), (1, .int a1)] → W p l e ({ frames := 4, cells := 0, slots := 0, locals := 85 } : Room) s m args below meth c H locs 0 0 (MQ below (Qn s0 D ac (some (.int v)) σ') args s 0 0 (fr s0)) (F0 m 234 ls []) := by
              intro σ36 he H locs ls h hl
              subst he
              have hf := hK
              have hf := hf_sr hf
              refine lv_iconst (v := 1) hx hb dX7_isHabitLine_234 (by decide) ?_
              cases hf
              refine W.widen (k := 0) (n := 0) (Nat.le_of_ble_eq_true rfl) (Nat.le_of_ble_eq_true rfl) ?_
              exact x_zret C h (by decide) dX7_isHabitLine_235
            refine loopF_ind (P := fun z => ∀ (H : Heap) (locs : List Loc) (ls : Array Slot), Hs s0 D ac (z.1) H locs → lv_has ls 4 [(0, .ref a0), (1, .int a1), (2, .int z.2.1), (3, .int z.2.2)] → W p l e ({ frames := 4, cells := 0, slots := 0, locals := 85 } : Room) s m args below meth c H locs 0 0 (MQ below (Qn s0 D ac (some (.int v)) σ') args s 0 0 (fr s0)) (F0 m 182 ls [])) ?_ _ _ hL _ _ _ h (lv_sub hl [2, 3, 1, 0] rfl)
            clear hK hL h hl hf
            intro z o hf ih hX H locs ls h hl
            obtain ⟨σ27, x28, x29⟩ := z
            have h : Hs s0 D ac σ27 H locs := h
            have hl : lv_has ls 4 [(0, .ref a0), (1, .int a1), (2, .int x28), (3, .int x29)] := hl
            have hf : lX7_isHabitLine_182 a0 a1 σ27 x28 x29 = some o := hf
            unfold lX7_isHabitLine_182 at hf
            refine lv_iload_n hx hb dX7_isHabitLine_182 rfl (lv_at hl 3 rfl) ?_
            refine lv_iconst (v := 3) hx hb dX7_isHabitLine_183 (by decide) ?_
            refine lv_icmp_ge (tgt := 234) hx hb dX7_isHabitLine_184 (by decide) (fun hc => ?_) (fun hc => ?_)
            · have hf := hf_t hc hf
              cases hf
              exact hE182_1 _ (hX _ rfl) _ _ _ h (lv_sub hl [0, 1] rfl)
            · have hf := hf_f hc hf
              refine lv_iload_n hx hb dX7_isHabitLine_187 rfl (lv_at hl 2 rfl) ?_
              refine lv_if_eq (tgt := 234) hx hb dX7_isHabitLine_188 (by decide) (fun hc => ?_) (fun hc => ?_)
              · have hf := hf_t hc hf
                cases hf
                exact hE182_1 _ (hX _ rfl) _ _ _ h (lv_sub hl [0, 1] rfl)
              · have hf := hf_f hc hf
                refine lv_aload_n hx hb dX7_isHabitLine_191 rfl (lv_at hl 0 rfl) ?_
                refine lv_iload_n hx hb dX7_isHabitLine_192 rfl (lv_at hl 1 rfl) ?_
                refine lv_iconst (v := 3) hx hb dX7_isHabitLine_193 (by decide) ?_
                refine lv_iadd hx hb dX7_isHabitLine_194 ?_
                refine lv_iconst (v := 3) hx hb dX7_isHabitLine_195 (by decide) ?_
                refine lv_iload_n hx hb dX7_isHabitLine_196 rfl (lv_at hl 3 rfl) ?_
                refine lv_imul hx hb dX7_isHabitLine_197 ?_
                refine lv_iadd hx hb dX7_isHabitLine_198 ?_
                obtain ⟨hk, hf⟩ := k_of hf
                obtain ⟨⟨x30, σ31⟩, hc, hf⟩ := hf_b hf
                have hf := hf_u2 hf
                refine x_cV (q := (RX7, TX7, 50)) (rest := []) (As := [.int ((a1 + 3) + (3 * x29))]) (n := 1) (ov := (some (.int x30))) G C h (wX7_isTest G hc) hk rfl (lw_V q1322 q1324 qs36 q61 q1325) (by decide +kernel) ⟨Nat.le_of_ble_eq_true rfl, Nat.le_of_ble_eq_true rfl⟩ rfl rfl rfl hl.1 rfl (Nat.le_of_ble_eq_true rfl) dX7_isHabitLine_199 ⟨(Nat.le_of_ble_eq_true rfl), (Nat.le_of_ble_eq_true rfl)⟩ (fun H locs h => ?_)
                refine lv_if_ne (tgt := 207) hx hb dX7_isHabitLine_202 (by decide) (fun hc => ?_) (fun hc => ?_)
                · have hf := hf_f hc hf
                  refine lv_aload_n hx hb dX7_isHabitLine_207 rfl (lv_at hl 0 rfl) ?_
                  obtain ⟨hk, hf⟩ := k_of hf
                  obtain ⟨σ32, hc, hf⟩ := hf_b hf
                  refine x_cV (q := (RX7, TX7, 50)) (rest := []) (As := []) (n := 0) (ov := none) G C h (wX7_nextToken G hc) hk rfl (lw_V q1298 q1300 qs33 q61 q1301) (by decide +kernel) ⟨Nat.le_of_ble_eq_true rfl, Nat.le_of_ble_eq_true rfl⟩ rfl rfl rfl hl.1 rfl (Nat.le_of_ble_eq_true rfl) dX7_isHabitLine_208 ⟨(Nat.le_of_ble_eq_true rfl), (Nat.le_of_ble_eq_true rfl)⟩ (fun H locs h => ?_)
                  refine lv_aload_n hx hb dX7_isHabitLine_211 rfl (lv_at hl 0 rfl) ?_
                  refine x_gL (q := (RX7, TX7, 50)) (j := 22) G C h rfl (by decide) (fun _ _ _ => rfl) (lk C q1078) (fun _ z => z) dX7_isHabitLine_212 hf (fun y33 hf => ?_)
                  refine lv_ldc2 (v := 1111) hx hb C.2.2.2.1 (C.2.2.2.2.1 _ q1334) dX7_isHabitLine_215 ?_
                  refine W.lcmp hx hb dX7_isHabitLine_218 ?_
                  refine jn_of (P := fun j => ∀ (x34 : Int32), j x34 = some o → ∀ (H : Heap) (locs : List Loc) (ls : Array Slot), Hs s0 D ac σ32 H locs → lv_has ls 4 [(0, .ref a0), (1, .int a1), (2, .int x28), (3, .int x29)] → W p l e ({ frames := 4, cells := 0, slots := 0, locals := 85 } : Room) s m args below meth c H locs 0 0 (MQ below (Qn s0 D ac (some (.int v)) σ') args s 0 0 (fr s0)) (F0 m 227 ls [.int x34])) hf ?_ ?_
                  · intro x34 hf H locs ls h hl
                    refine lv_istore_n (lv' := [(2, .int x34), (0, .ref a0), (1, .int a1), (3, .int x29)]) hx hb dX7_isHabitLine_227 rfl hl (by decide) rfl (fun ls hl => ?_)
                    refine lv_iinc (v := x29 + 1) (lv' := [(3, .int (x29 + 1)), (2, .int x34), (0, .ref a0), (1, .int a1)]) hx hb dX7_isHabitLine_228 hl (k := 3) rfl rfl (by decide) rfl (fun ls hl => ?_)
                    refine lv_goto (tgt := 182) hx hb dX7_isHabitLine_231 (by decide) ?_
                    cases hf
                    exact ih _ rfl _ _ _ h (lv_sub hl [2, 3, 1, 0] rfl)
                  intro j227 hj227 hf
                  refine lv_if_ne (tgt := 226) hx hb dX7_isHabitLine_219 (by decide) (fun hc => ?_) (fun hc => ?_)
                  · have hf := hf_f hc hf
                    refine lv_iconst (v := 0) hx hb dX7_isHabitLine_226 (by decide) ?_
                    exact hj227 _ hf _ _ _ h (lv_sub hl [0, 1, 2, 3] rfl)
                  · have hf := hf_t hc hf
                    refine lv_iconst (v := 1) hx hb dX7_isHabitLine_222 (by decide) ?_
                    refine lv_goto (tgt := 227) hx hb dX7_isHabitLine_223 (by decide) ?_
                    exact hj227 _ hf _ _ _ h (lv_sub hl [0, 1, 2, 3] rfl)
                · have hf := hf_t hc hf
                  cases hf
                  exact hE182_0 _ (hX _ rfl) _ _ _ h (lv_sub hl [0, 1] rfl)
          intro j179 hj179 hf
          refine lv_if_ne (tgt := 178) hx hb dX7_isHabitLine_171 (by decide) (fun hc => ?_) (fun hc => ?_)
          · have hf := hf_f hc hf
            refine lv_iconst (v := 0) hx hb dX7_isHabitLine_178 (by decide) ?_
            exact hj179 _ hf _ _ _ h (lv_sub hl [0, 1] rfl)
          · have hf := hf_t hc hf
            refine lv_iconst (v := 1) hx hb dX7_isHabitLine_174 (by decide) ?_
            refine lv_goto (tgt := 179) hx hb dX7_isHabitLine_175 (by decide) ?_
            exact hj179 _ hf _ _ _ h (lv_sub hl [0, 1] rfl)
        intro j159 hj159 hf
        refine lv_icmp_ne (tgt := 159) hx hb dX7_isHabitLine_143 (by decide) (fun hc => ?_) (fun hc => ?_)
        · have hf := hf_f hc hf
          exact hj159 _ hf _ _ _ h (lv_sub hl [0, 1] rfl)
        · have hf := hf_t hc hf
          refine lv_aload_n hx hb dX7_isHabitLine_146 rfl (lv_at hl 0 rfl) ?_
          refine lv_iload_n hx hb dX7_isHabitLine_147 rfl (lv_at hl 1 rfl) ?_
          refine lv_iconst (v := 1) hx hb dX7_isHabitLine_148 (by decide) ?_
          refine lv_iadd hx hb dX7_isHabitLine_149 ?_
          refine lv_iconst (v := 5) hx hb dX7_isHabitLine_150 (by decide) ?_
          obtain ⟨hk, hf⟩ := k_of hf
          obtain ⟨⟨x21, σ22⟩, hc, hf⟩ := hf_b hf
          have hf := hf_u2 hf
          refine x_cV (q := (RX7, TX7, 50)) (rest := []) (As := [.int (a1 + 1), .int 5]) (n := 2) (ov := (some (.int x21))) G C h (wX7_isNumber G hc) hk rfl (lw_V q1317 q1319 qs35 q61 q1320) (by decide +kernel) ⟨Nat.le_of_ble_eq_true rfl, Nat.le_of_ble_eq_true rfl⟩ rfl rfl rfl hl.1 rfl (Nat.le_of_ble_eq_true rfl) dX7_isHabitLine_151 ⟨(Nat.le_of_ble_eq_true rfl), (Nat.le_of_ble_eq_true rfl)⟩ (fun H locs h => ?_)
          refine lv_if_ne (tgt := 159) hx hb dX7_isHabitLine_154 (by decide) (fun hc => ?_) (fun hc => ?_)
          · have hf := hf_f hc hf
            exact hj159 _ hf _ _ _ h (lv_sub hl [0, 1] rfl)
          · have hf := hf_t hc hf
            refine lv_iconst (v := 0) hx hb dX7_isHabitLine_157 (by decide) ?_
            cases hf
            refine W.widen (k := 0) (n := 0) (Nat.le_of_ble_eq_true rfl) (Nat.le_of_ble_eq_true rfl) ?_
            exact x_zret C h (by decide) dX7_isHabitLine_158
      · have hf := hf_t hc hf
        refine lv_aload_n hx hb dX7_isHabitLine_131 rfl (lv_at hl 0 rfl) ?_
        obtain ⟨hk, hf⟩ := k_of hf
        obtain ⟨⟨x37, σ38⟩, hc, hf⟩ := hf_b hf
        have hf := hf_u2 hf
        refine x_cV (q := (RX7, TX7, 50)) (rest := []) (As := []) (n := 0) (ov := (some (.int x37))) G C h (wX7_fails G hc) hk rfl (lw_V q1313 q1315 qs34 q61 q1316) (by decide +kernel) ⟨Nat.le_of_ble_eq_true rfl, Nat.le_of_ble_eq_true rfl⟩ rfl rfl rfl hl.1 rfl (Nat.le_of_ble_eq_true rfl) dX7_isHabitLine_132 ⟨(Nat.le_of_ble_eq_true rfl), (Nat.le_of_ble_eq_true rfl)⟩ (fun H locs h => ?_)
        obtain ⟨hz, hf⟩ := bz_of hf
        cases hf
        refine W.widen (k := 0) (n := 0) (Nat.le_of_ble_eq_true rfl) (Nat.le_of_ble_eq_true rfl) ?_
        exact x_zret C h hz dX7_isHabitLine_135
    refine loopF_ind (P := fun z => ∀ (H : Heap) (locs : List Loc) (ls : Array Slot), Hs s0 D ac (z.1) H locs → lv_has ls 4 [(0, .ref a0), (1, .int a1), (2, .int z.2)] → W p l e ({ frames := 4, cells := 0, slots := 0, locals := 85 } : Room) s m args below meth c H locs 0 0 (MQ below (Qn s0 D ac (some (.int v)) σ') args s 0 0 (fr s0)) (F0 m 97 ls [])) ?_ _ _ hL _ _ _ h (lv_sub hl [1, 2, 0] rfl)
    clear hK hL h hl hf
    intro z o hf ih hX H locs ls h hl
    obtain ⟨σ12, x13⟩ := z
    have h : Hs s0 D ac σ12 H locs := h
    have hl : lv_has ls 4 [(0, .ref a0), (1, .int a1), (2, .int x13)] := hl
    have hf : lX7_isHabitLine_97 a0 a1 σ12 x13 = some o := hf
    unfold lX7_isHabitLine_97 at hf
    refine lv_iload_n hx hb dX7_isHabitLine_97 rfl (lv_at hl 2 rfl) ?_
    refine lv_iconst (v := 3) hx hb dX7_isHabitLine_98 (by decide) ?_
    refine lv_icmp_ge (tgt := 121) hx hb dX7_isHabitLine_99 (by decide) (fun hc => ?_) (fun hc => ?_)
    · have hf := hf_t hc hf
      cases hf
      exact hE97_0 _ (hX _ rfl) _ _ _ h (lv_sub hl [0, 1] rfl)
    · have hf := hf_f hc hf
      refine lv_aload_n hx hb dX7_isHabitLine_102 rfl (lv_at hl 0 rfl) ?_
      refine x_gR (q := (RX7, TX7, 50)) (j := 27) G C h rfl (by decide) (fun _ _ _ => rfl) (lk C q1083) (fun _ z => z) dX7_isHabitLine_103 hf (fun r14 hf => ?_)
      refine lv_iload_n hx hb dX7_isHabitLine_106 rfl (lv_at hl 1 rfl) ?_
      refine lv_iconst (v := 3) hx hb dX7_isHabitLine_107 (by decide) ?_
      refine lv_iadd hx hb dX7_isHabitLine_108 ?_
      refine lv_iconst (v := 3) hx hb dX7_isHabitLine_109 (by decide) ?_
      refine lv_iload_n hx hb dX7_isHabitLine_110 rfl (lv_at hl 2 rfl) ?_
      refine lv_imul hx hb dX7_isHabitLine_111 ?_
      refine lv_iadd hx hb dX7_isHabitLine_112 ?_
      refine lv_iconst (v := (-1)) hx hb dX7_isHabitLine_113 (by decide) ?_
      refine x_iast G C h dX7_isHabitLine_114 hf (fun σ15 H locs h hf => ?_)
      refine lv_iinc (v := x13 + 1) (lv' := [(2, .int (x13 + 1)), (0, .ref a0), (1, .int a1)]) hx hb dX7_isHabitLine_115 hl (k := 2) rfl rfl (by decide) rfl (fun ls hl => ?_)
      refine lv_goto (tgt := 97) hx hb dX7_isHabitLine_118 (by decide) ?_
      cases hf
      exact ih _ rfl _ _ _ h (lv_sub hl [1, 2, 0] rfl)
  intro j85 hj85 hf
  refine lv_if_ne (tgt := 24) hx hb dX7_isHabitLine_17 (by decide) (fun hc => ?_) (fun hc => ?_)
  · have hf := hf_f hc hf
    refine lv_aload_n hx hb dX7_isHabitLine_24 rfl (lv_at hl 0 rfl) ?_
    refine x_gL (q := (RX7, TX7, 50)) (j := 22) G C h rfl (by decide) (fun _ _ _ => rfl) (lk C q1078) (fun _ z => z) dX7_isHabitLine_25 hf (fun y4 hf => ?_)
    refine lv_ldc2 (v := 259906) hx hb C.2.2.2.1 (C.2.2.2.2.1 _ q1309) dX7_isHabitLine_28 ?_
    refine W.lcmp hx hb dX7_isHabitLine_31 ?_
    refine lv_if_ne (tgt := 39) hx hb dX7_isHabitLine_32 (by decide) (fun hc => ?_) (fun hc => ?_)
    · have hf := hf_f hc hf
      refine lv_aload_n hx hb dX7_isHabitLine_39 rfl (lv_at hl 0 rfl) ?_
      refine x_gL (q := (RX7, TX7, 50)) (j := 22) G C h rfl (by decide) (fun _ _ _ => rfl) (lk C q1078) (fun _ z => z) dX7_isHabitLine_40 hf (fun y5 hf => ?_)
      refine lv_ldc2 (v := 125041) hx hb C.2.2.2.1 (C.2.2.2.2.1 _ q1310) dX7_isHabitLine_43 ?_
      refine W.lcmp hx hb dX7_isHabitLine_46 ?_
      refine lv_if_ne (tgt := 54) hx hb dX7_isHabitLine_47 (by decide) (fun hc => ?_) (fun hc => ?_)
      · have hf := hf_f hc hf
        refine lv_aload_n hx hb dX7_isHabitLine_54 rfl (lv_at hl 0 rfl) ?_
        refine x_gL (q := (RX7, TX7, 50)) (j := 22) G C h rfl (by decide) (fun _ _ _ => rfl) (lk C q1078) (fun _ z => z) dX7_isHabitLine_55 hf (fun y6 hf => ?_)
        refine lv_ldc2 (v := 121882) hx hb C.2.2.2.1 (C.2.2.2.2.1 _ q1311) dX7_isHabitLine_58 ?_
        refine W.lcmp hx hb dX7_isHabitLine_61 ?_
        refine lv_if_ne (tgt := 69) hx hb dX7_isHabitLine_62 (by decide) (fun hc => ?_) (fun hc => ?_)
        · have hf := hf_f hc hf
          refine lv_aload_n hx hb dX7_isHabitLine_69 rfl (lv_at hl 0 rfl) ?_
          refine x_gL (q := (RX7, TX7, 50)) (j := 22) G C h rfl (by decide) (fun _ _ _ => rfl) (lk C q1078) (fun _ z => z) dX7_isHabitLine_70 hf (fun y7 hf => ?_)
          refine lv_ldc2 (v := 355270) hx hb C.2.2.2.1 (C.2.2.2.2.1 _ q1312) dX7_isHabitLine_73 ?_
          refine W.lcmp hx hb dX7_isHabitLine_76 ?_
          refine lv_if_ne (tgt := 84) hx hb dX7_isHabitLine_77 (by decide) (fun hc => ?_) (fun hc => ?_)
          · have hf := hf_f hc hf
            refine lv_iconst (v := (-1)) hx hb dX7_isHabitLine_84 (by decide) ?_
            exact hj85 _ hf _ _ _ h (lv_sub hl [0, 1] rfl)
          · have hf := hf_t hc hf
            refine lv_iconst (v := 4) hx hb dX7_isHabitLine_80 (by decide) ?_
            refine lv_goto (tgt := 85) hx hb dX7_isHabitLine_81 (by decide) ?_
            exact hj85 _ hf _ _ _ h (lv_sub hl [0, 1] rfl)
        · have hf := hf_t hc hf
          refine lv_iconst (v := 3) hx hb dX7_isHabitLine_65 (by decide) ?_
          refine lv_goto (tgt := 85) hx hb dX7_isHabitLine_66 (by decide) ?_
          exact hj85 _ hf _ _ _ h (lv_sub hl [0, 1] rfl)
      · have hf := hf_t hc hf
        refine lv_iconst (v := 2) hx hb dX7_isHabitLine_50 (by decide) ?_
        refine lv_goto (tgt := 85) hx hb dX7_isHabitLine_51 (by decide) ?_
        exact hj85 _ hf _ _ _ h (lv_sub hl [0, 1] rfl)
    · have hf := hf_t hc hf
      refine lv_iconst (v := 1) hx hb dX7_isHabitLine_35 (by decide) ?_
      refine lv_goto (tgt := 85) hx hb dX7_isHabitLine_36 (by decide) ?_
      exact hj85 _ hf _ _ _ h (lv_sub hl [0, 1] rfl)
  · have hf := hf_t hc hf
    refine lv_iconst (v := 0) hx hb dX7_isHabitLine_20 (by decide) ?_
    refine lv_goto (tgt := 85) hx hb dX7_isHabitLine_21 (by decide) ?_
    exact hj85 _ hf _ _ _ h (lv_sub hl [0, 1] rfl)

theorem dX7_isTasteLine_0 : decode cX7_isTasteLine 0 = .ok (.aload_n 0, 1) := by decide +kernel
theorem dX7_isTasteLine_1 : decode cX7_isTasteLine 1 = .ok (.invokevirtual 198, 3) := by decide +kernel
theorem dX7_isTasteLine_4 : decode cX7_isTasteLine 4 = .ok (.aload_n 0, 1) := by decide +kernel
theorem dX7_isTasteLine_5 : decode cX7_isTasteLine 5 = .ok (.getfield 56, 3) := by decide +kernel
theorem dX7_isTasteLine_8 : decode cX7_isTasteLine 8 = .ok (.iload_n 1, 1) := by decide +kernel
theorem dX7_isTasteLine_9 : decode cX7_isTasteLine 9 = .ok (.aload_n 0, 1) := by decide +kernel
theorem dX7_isTasteLine_10 : decode cX7_isTasteLine 10 = .ok (.getfield 181, 3) := by decide +kernel
theorem dX7_isTasteLine_13 : decode cX7_isTasteLine 13 = .ok (.ldc2_w 242, 3) := by decide +kernel
theorem dX7_isTasteLine_16 : decode cX7_isTasteLine 16 = .ok (.lcmp, 1) := by decide +kernel
theorem dX7_isTasteLine_17 : decode cX7_isTasteLine 17 = .ok (.ifCond .ne 7, 3) := by decide +kernel
theorem dX7_isTasteLine_20 : decode cX7_isTasteLine 20 = .ok (.iconst 0, 1) := by decide +kernel
theorem dX7_isTasteLine_21 : decode cX7_isTasteLine 21 = .ok (.goto 64, 3) := by decide +kernel
theorem dX7_isTasteLine_24 : decode cX7_isTasteLine 24 = .ok (.aload_n 0, 1) := by decide +kernel
theorem dX7_isTasteLine_25 : decode cX7_isTasteLine 25 = .ok (.getfield 181, 3) := by decide +kernel
theorem dX7_isTasteLine_28 : decode cX7_isTasteLine 28 = .ok (.ldc2_w 244, 3) := by decide +kernel
theorem dX7_isTasteLine_31 : decode cX7_isTasteLine 31 = .ok (.lcmp, 1) := by decide +kernel
theorem dX7_isTasteLine_32 : decode cX7_isTasteLine 32 = .ok (.ifCond .ne 7, 3) := by decide +kernel
theorem dX7_isTasteLine_35 : decode cX7_isTasteLine 35 = .ok (.iconst 1, 1) := by decide +kernel
theorem dX7_isTasteLine_36 : decode cX7_isTasteLine 36 = .ok (.goto 49, 3) := by decide +kernel
theorem dX7_isTasteLine_39 : decode cX7_isTasteLine 39 = .ok (.aload_n 0, 1) := by decide +kernel
theorem dX7_isTasteLine_40 : decode cX7_isTasteLine 40 = .ok (.getfield 181, 3) := by decide +kernel
theorem dX7_isTasteLine_43 : decode cX7_isTasteLine 43 = .ok (.ldc2_w 246, 3) := by decide +kernel
theorem dX7_isTasteLine_46 : decode cX7_isTasteLine 46 = .ok (.lcmp, 1) := by decide +kernel
theorem dX7_isTasteLine_47 : decode cX7_isTasteLine 47 = .ok (.ifCond .ne 7, 3) := by decide +kernel
theorem dX7_isTasteLine_50 : decode cX7_isTasteLine 50 = .ok (.iconst 2, 1) := by decide +kernel
theorem dX7_isTasteLine_51 : decode cX7_isTasteLine 51 = .ok (.goto 34, 3) := by decide +kernel
theorem dX7_isTasteLine_54 : decode cX7_isTasteLine 54 = .ok (.aload_n 0, 1) := by decide +kernel
theorem dX7_isTasteLine_55 : decode cX7_isTasteLine 55 = .ok (.getfield 181, 3) := by decide +kernel
theorem dX7_isTasteLine_58 : decode cX7_isTasteLine 58 = .ok (.ldc2_w 248, 3) := by decide +kernel
theorem dX7_isTasteLine_61 : decode cX7_isTasteLine 61 = .ok (.lcmp, 1) := by decide +kernel
theorem dX7_isTasteLine_62 : decode cX7_isTasteLine 62 = .ok (.ifCond .ne 7, 3) := by decide +kernel
theorem dX7_isTasteLine_65 : decode cX7_isTasteLine 65 = .ok (.iconst 3, 1) := by decide +kernel
theorem dX7_isTasteLine_66 : decode cX7_isTasteLine 66 = .ok (.goto 19, 3) := by decide +kernel
theorem dX7_isTasteLine_69 : decode cX7_isTasteLine 69 = .ok (.aload_n 0, 1) := by decide +kernel
theorem dX7_isTasteLine_70 : decode cX7_isTasteLine 70 = .ok (.getfield 181, 3) := by decide +kernel
theorem dX7_isTasteLine_73 : decode cX7_isTasteLine 73 = .ok (.ldc2_w 250, 3) := by decide +kernel
theorem dX7_isTasteLine_76 : decode cX7_isTasteLine 76 = .ok (.lcmp, 1) := by decide +kernel
theorem dX7_isTasteLine_77 : decode cX7_isTasteLine 77 = .ok (.ifCond .ne 7, 3) := by decide +kernel
theorem dX7_isTasteLine_80 : decode cX7_isTasteLine 80 = .ok (.iconst 4, 1) := by decide +kernel
theorem dX7_isTasteLine_81 : decode cX7_isTasteLine 81 = .ok (.goto 4, 3) := by decide +kernel
theorem dX7_isTasteLine_84 : decode cX7_isTasteLine 84 = .ok (.iconst (-1), 1) := by decide +kernel
theorem dX7_isTasteLine_85 : decode cX7_isTasteLine 85 = .ok (.iastore, 1) := by decide +kernel
theorem dX7_isTasteLine_86 : decode cX7_isTasteLine 86 = .ok (.aload_n 0, 1) := by decide +kernel
theorem dX7_isTasteLine_87 : decode cX7_isTasteLine 87 = .ok (.getfield 56, 3) := by decide +kernel
theorem dX7_isTasteLine_90 : decode cX7_isTasteLine 90 = .ok (.iload_n 1, 1) := by decide +kernel
theorem dX7_isTasteLine_91 : decode cX7_isTasteLine 91 = .ok (.iconst 1, 1) := by decide +kernel
theorem dX7_isTasteLine_92 : decode cX7_isTasteLine 92 = .ok (.iadd, 1) := by decide +kernel
theorem dX7_isTasteLine_93 : decode cX7_isTasteLine 93 = .ok (.iconst 0, 1) := by decide +kernel
theorem dX7_isTasteLine_94 : decode cX7_isTasteLine 94 = .ok (.iastore, 1) := by decide +kernel
theorem dX7_isTasteLine_95 : decode cX7_isTasteLine 95 = .ok (.aload_n 0, 1) := by decide +kernel
theorem dX7_isTasteLine_96 : decode cX7_isTasteLine 96 = .ok (.getfield 56, 3) := by decide +kernel
theorem dX7_isTasteLine_99 : decode cX7_isTasteLine 99 = .ok (.iload_n 1, 1) := by decide +kernel
theorem dX7_isTasteLine_100 : decode cX7_isTasteLine 100 = .ok (.iaload, 1) := by decide +kernel
theorem dX7_isTasteLine_101 : decode cX7_isTasteLine 101 = .ok (.iconst (-1), 1) := by decide +kernel
theorem dX7_isTasteLine_102 : decode cX7_isTasteLine 102 = .ok (.if_icmp .ne 8, 3) := by decide +kernel
theorem dX7_isTasteLine_105 : decode cX7_isTasteLine 105 = .ok (.aload_n 0, 1) := by decide +kernel
theorem dX7_isTasteLine_106 : decode cX7_isTasteLine 106 = .ok (.invokevirtual 201, 3) := by decide +kernel
theorem dX7_isTasteLine_109 : decode cX7_isTasteLine 109 = .ok (.ireturn, 1) := by decide +kernel
theorem dX7_isTasteLine_110 : decode cX7_isTasteLine 110 = .ok (.aload_n 0, 1) := by decide +kernel
theorem dX7_isTasteLine_111 : decode cX7_isTasteLine 111 = .ok (.getfield 56, 3) := by decide +kernel
theorem dX7_isTasteLine_114 : decode cX7_isTasteLine 114 = .ok (.iload_n 1, 1) := by decide +kernel
theorem dX7_isTasteLine_115 : decode cX7_isTasteLine 115 = .ok (.iaload, 1) := by decide +kernel
theorem dX7_isTasteLine_116 : decode cX7_isTasteLine 116 = .ok (.iconst 1, 1) := by decide +kernel
theorem dX7_isTasteLine_117 : decode cX7_isTasteLine 117 = .ok (.if_icmp .ne 16, 3) := by decide +kernel
theorem dX7_isTasteLine_120 : decode cX7_isTasteLine 120 = .ok (.aload_n 0, 1) := by decide +kernel
theorem dX7_isTasteLine_121 : decode cX7_isTasteLine 121 = .ok (.iload_n 1, 1) := by decide +kernel
theorem dX7_isTasteLine_122 : decode cX7_isTasteLine 122 = .ok (.iconst 1, 1) := by decide +kernel
theorem dX7_isTasteLine_123 : decode cX7_isTasteLine 123 = .ok (.iadd, 1) := by decide +kernel
theorem dX7_isTasteLine_124 : decode cX7_isTasteLine 124 = .ok (.iconst 3, 1) := by decide +kernel
theorem dX7_isTasteLine_125 : decode cX7_isTasteLine 125 = .ok (.invokevirtual 221, 3) := by decide +kernel
theorem dX7_isTasteLine_128 : decode cX7_isTasteLine 128 = .ok (.ifCond .ne 5, 3) := by decide +kernel
theorem dX7_isTasteLine_131 : decode cX7_isTasteLine 131 = .ok (.iconst 0, 1) := by decide +kernel
theorem dX7_isTasteLine_132 : decode cX7_isTasteLine 132 = .ok (.ireturn, 1) := by decide +kernel
theorem dX7_isTasteLine_133 : decode cX7_isTasteLine 133 = .ok (.aload_n 0, 1) := by decide +kernel
theorem dX7_isTasteLine_134 : decode cX7_isTasteLine 134 = .ok (.iload_n 1, 1) := by decide +kernel
theorem dX7_isTasteLine_135 : decode cX7_isTasteLine 135 = .ok (.iconst 2, 1) := by decide +kernel
theorem dX7_isTasteLine_136 : decode cX7_isTasteLine 136 = .ok (.iadd, 1) := by decide +kernel
theorem dX7_isTasteLine_137 : decode cX7_isTasteLine 137 = .ok (.bipush 99, 2) := by decide +kernel
theorem dX7_isTasteLine_139 : decode cX7_isTasteLine 139 = .ok (.invokevirtual 221, 3) := by decide +kernel
theorem dX7_isTasteLine_142 : decode cX7_isTasteLine 142 = .ok (.ifCond .ne 5, 3) := by decide +kernel
theorem dX7_isTasteLine_145 : decode cX7_isTasteLine 145 = .ok (.iconst 0, 1) := by decide +kernel
theorem dX7_isTasteLine_146 : decode cX7_isTasteLine 146 = .ok (.ireturn, 1) := by decide +kernel
theorem dX7_isTasteLine_147 : decode cX7_isTasteLine 147 = .ok (.aload_n 0, 1) := by decide +kernel
theorem dX7_isTasteLine_148 : decode cX7_isTasteLine 148 = .ok (.invokevirtual 198, 3) := by decide +kernel
theorem dX7_isTasteLine_151 : decode cX7_isTasteLine 151 = .ok (.iconst 1, 1) := by decide +kernel
theorem dX7_isTasteLine_152 : decode cX7_isTasteLine 152 = .ok (.ireturn, 1) := by decide +kernel
def fX7_isTasteLine (σ : St) (a0 : Nat) (a1 : Int32) : Option (Int32 × St) :=
  o_k σ a0 5 <|
  (fX7_nextToken σ a0).bind fun σ1 =>
  o_gR σ1 a0 5 27 fun r2 =>
  o_gL σ1 a0 5 22 fun y3 =>
  jn (fun (x8 : Int32) =>
    o_sI σ1 r2 0 a1 x8 fun σ9 =>
    o_gR σ9 a0 5 27 fun r10 =>
    o_sI σ9 r10 0 (a1 + 1) 0 fun σ11 =>
    o_gR σ11 a0 5 27 fun r12 =>
    o_aI σ11 r12 0 a1 fun x13 =>
    if x13 = ((-1)) then
      o_k σ11 a0 5 <|
      (fX7_fails σ11 a0).bind <| un2 fun x22 σ23 =>
      o_bz x22 <| some (x22, σ23)
    else
    o_gR σ11 a0 5 27 fun r14 =>
    o_aI σ11 r14 0 a1 fun x15 =>
    jn (fun (σ18 : St) =>
      o_k σ18 a0 5 <|
      (fX7_isNumber σ18 a0 (a1 + 2) 99).bind <| un2 fun x19 σ20 =>
      if x19 = 0 then
        some (0, σ20)
      else
      o_k σ20 a0 5 <|
      (fX7_nextToken σ20 a0).bind fun σ21 =>
      some (1, σ21)) fun j133 =>
    if x15 = 1 then
      o_k σ11 a0 5 <|
      (fX7_isNumber σ11 a0 (a1 + 1) 3).bind <| un2 fun x16 σ17 =>
      if x16 = 0 then
        some (0, σ17)
      else
      j133 σ17
    else
    j133 σ11) fun j85 =>
  if (lg_cmp y3 10497692) = 0 then
    j85 0
  else
  o_gL σ1 a0 5 22 fun y4 =>
  if (lg_cmp y4 51266052) = 0 then
    j85 1
  else
  o_gL σ1 a0 5 22 fun y5 =>
  if (lg_cmp y5 381245) = 0 then
    j85 2
  else
  o_gL σ1 a0 5 22 fun y6 =>
  if (lg_cmp y6 13550) = 0 then
    j85 3
  else
  o_gL σ1 a0 5 22 fun y7 =>
  if (lg_cmp y7 6476969) = 0 then
    j85 4
  else
  j85 ((-1))

set_option maxHeartbeats 4000000 in
theorem wX7_isTasteLine {l : Launch} {s0 : State} {A0 : Array Value} {D : va_G} {ac : Nat → ClassId} (G : Gl s0 A0 D ac) {σ : St} {a0 : Nat} {a1 : Int32} {v : Int32} {σ' : St} (hf : fX7_isTasteLine σ a0 a1 = some (v, σ')) : Met l yX7_isTasteLine (ws_ yX7_isTasteLine cX7_isTasteLine 2 (some (.boolean))) ({ frames := 3, cells := 0, slots := 0, locals := 64 } : Room) (Pn s0 D ac [.ref a0, .int a1] σ) (Qn s0 D ac (some (.int v)) σ') 0 0 (fr s0) := by
  refine x_met (by decide) (Nat.le_of_ble_eq_true rfl) ?_
  intro p e s m args below meth c ls C hnm h hl
  have C : Cx s0 p s m args meth c cX7_isTasteLine 2 "HutForShowModel" (some (.boolean)) := C
  have hx := C.1
  have hb := C.2.1
  have hl : lv_has ls 2 [(0, .ref a0), (1, .int a1)] := hl
  unfold fX7_isTasteLine at hf
  refine lv_aload_n hx hb dX7_isTasteLine_0 rfl (lv_at hl 0 rfl) ?_
  obtain ⟨hk, hf⟩ := k_of hf
  obtain ⟨σ1, hc, hf⟩ := hf_b hf
  refine x_cV (q := (RX7, TX7, 50)) (rest := []) (As := []) (n := 0) (ov := none) G C h (wX7_nextToken G hc) hk rfl (lw_V q1298 q1300 qs33 q61 q1301) (by decide +kernel) ⟨Nat.le_of_ble_eq_true rfl, Nat.le_of_ble_eq_true rfl⟩ rfl rfl rfl hl.1 rfl (Nat.le_of_ble_eq_true rfl) dX7_isTasteLine_1 ⟨(Nat.le_of_ble_eq_true rfl), (Nat.le_of_ble_eq_true rfl)⟩ (fun H locs h => ?_)
  refine lv_aload_n hx hb dX7_isTasteLine_4 rfl (lv_at hl 0 rfl) ?_
  refine x_gR (q := (RX7, TX7, 50)) (j := 27) G C h rfl (by decide) (fun _ _ _ => rfl) (lk C q1083) (fun _ z => z) dX7_isTasteLine_5 hf (fun r2 hf => ?_)
  refine lv_iload_n hx hb dX7_isTasteLine_8 rfl (lv_at hl 1 rfl) ?_
  refine lv_aload_n hx hb dX7_isTasteLine_9 rfl (lv_at hl 0 rfl) ?_
  refine x_gL (q := (RX7, TX7, 50)) (j := 22) G C h rfl (by decide) (fun _ _ _ => rfl) (lk C q1078) (fun _ z => z) dX7_isTasteLine_10 hf (fun y3 hf => ?_)
  refine lv_ldc2 (v := 10497692) hx hb C.2.2.2.1 (C.2.2.2.2.1 _ q1339) dX7_isTasteLine_13 ?_
  refine W.lcmp hx hb dX7_isTasteLine_16 ?_
  refine jn_of (P := fun j => ∀ (x8 : Int32), j x8 = some (v, σ') → ∀ (H : Heap) (locs : List Loc) (ls : Array Slot), Hs s0 D ac σ1 H locs → lv_has ls 2 [(0, .ref a0), (1, .int a1)] → W p l e ({ frames := 3, cells := 0, slots := 0, locals := 64 } : Room) s m args below meth c H locs 0 0 (MQ below (Qn s0 D ac (some (.int v)) σ') args s 0 0 (fr s0)) (F0 m 85 ls [.int x8, .int a1, .ref r2])) hf ?_ ?_
  · intro x8 hf H locs ls h hl
    refine x_iast G C h dX7_isTasteLine_85 hf (fun σ9 H locs h hf => ?_)
    refine lv_aload_n hx hb dX7_isTasteLine_86 rfl (lv_at hl 0 rfl) ?_
    refine x_gR (q := (RX7, TX7, 50)) (j := 27) G C h rfl (by decide) (fun _ _ _ => rfl) (lk C q1083) (fun _ z => z) dX7_isTasteLine_87 hf (fun r10 hf => ?_)
    refine lv_iload_n hx hb dX7_isTasteLine_90 rfl (lv_at hl 1 rfl) ?_
    refine lv_iconst (v := 1) hx hb dX7_isTasteLine_91 (by decide) ?_
    refine lv_iadd hx hb dX7_isTasteLine_92 ?_
    refine lv_iconst (v := 0) hx hb dX7_isTasteLine_93 (by decide) ?_
    refine x_iast G C h dX7_isTasteLine_94 hf (fun σ11 H locs h hf => ?_)
    refine lv_aload_n hx hb dX7_isTasteLine_95 rfl (lv_at hl 0 rfl) ?_
    refine x_gR (q := (RX7, TX7, 50)) (j := 27) G C h rfl (by decide) (fun _ _ _ => rfl) (lk C q1083) (fun _ z => z) dX7_isTasteLine_96 hf (fun r12 hf => ?_)
    refine lv_iload_n hx hb dX7_isTasteLine_99 rfl (lv_at hl 1 rfl) ?_
    refine x_iald G C h dX7_isTasteLine_100 hf (fun x13 hf => ?_)
    refine lv_iconst (v := (-1)) hx hb dX7_isTasteLine_101 (by decide) ?_
    refine lv_icmp_ne (tgt := 110) hx hb dX7_isTasteLine_102 (by decide) (fun hc => ?_) (fun hc => ?_)
    · have hf := hf_f hc hf
      refine lv_aload_n hx hb dX7_isTasteLine_110 rfl (lv_at hl 0 rfl) ?_
      refine x_gR (q := (RX7, TX7, 50)) (j := 27) G C h rfl (by decide) (fun _ _ _ => rfl) (lk C q1083) (fun _ z => z) dX7_isTasteLine_111 hf (fun r14 hf => ?_)
      refine lv_iload_n hx hb dX7_isTasteLine_114 rfl (lv_at hl 1 rfl) ?_
      refine x_iald G C h dX7_isTasteLine_115 hf (fun x15 hf => ?_)
      refine lv_iconst (v := 1) hx hb dX7_isTasteLine_116 (by decide) ?_
      refine jn_of (P := fun j => ∀ (σ18 : St), j σ18 = some (v, σ') → ∀ (H : Heap) (locs : List Loc) (ls : Array Slot), Hs s0 D ac σ18 H locs → lv_has ls 2 [(0, .ref a0), (1, .int a1)] → W p l e ({ frames := 3, cells := 0, slots := 0, locals := 64 } : Room) s m args below meth c H locs 0 0 (MQ below (Qn s0 D ac (some (.int v)) σ') args s 0 0 (fr s0)) (F0 m 133 ls [])) hf ?_ ?_
      · intro σ18 hf H locs ls h hl
        refine lv_aload_n hx hb dX7_isTasteLine_133 rfl (lv_at hl 0 rfl) ?_
        refine lv_iload_n hx hb dX7_isTasteLine_134 rfl (lv_at hl 1 rfl) ?_
        refine lv_iconst (v := 2) hx hb dX7_isTasteLine_135 (by decide) ?_
        refine lv_iadd hx hb dX7_isTasteLine_136 ?_
        refine lv_bipush (v := 99) hx hb dX7_isTasteLine_137 (by decide) ?_
        obtain ⟨hk, hf⟩ := k_of hf
        obtain ⟨⟨x19, σ20⟩, hc, hf⟩ := hf_b hf
        have hf := hf_u2 hf
        refine x_cV (q := (RX7, TX7, 50)) (rest := []) (As := [.int (a1 + 2), .int 99]) (n := 2) (ov := (some (.int x19))) G C h (wX7_isNumber G hc) hk rfl (lw_V q1317 q1319 qs35 q61 q1320) (by decide +kernel) ⟨Nat.le_of_ble_eq_true rfl, Nat.le_of_ble_eq_true rfl⟩ rfl rfl rfl hl.1 rfl (Nat.le_of_ble_eq_true rfl) dX7_isTasteLine_139 ⟨(Nat.le_of_ble_eq_true rfl), (Nat.le_of_ble_eq_true rfl)⟩ (fun H locs h => ?_)
        refine lv_if_ne (tgt := 147) hx hb dX7_isTasteLine_142 (by decide) (fun hc => ?_) (fun hc => ?_)
        · have hf := hf_f hc hf
          refine lv_aload_n hx hb dX7_isTasteLine_147 rfl (lv_at hl 0 rfl) ?_
          obtain ⟨hk, hf⟩ := k_of hf
          obtain ⟨σ21, hc, hf⟩ := hf_b hf
          refine x_cV (q := (RX7, TX7, 50)) (rest := []) (As := []) (n := 0) (ov := none) G C h (wX7_nextToken G hc) hk rfl (lw_V q1298 q1300 qs33 q61 q1301) (by decide +kernel) ⟨Nat.le_of_ble_eq_true rfl, Nat.le_of_ble_eq_true rfl⟩ rfl rfl rfl hl.1 rfl (Nat.le_of_ble_eq_true rfl) dX7_isTasteLine_148 ⟨(Nat.le_of_ble_eq_true rfl), (Nat.le_of_ble_eq_true rfl)⟩ (fun H locs h => ?_)
          refine lv_iconst (v := 1) hx hb dX7_isTasteLine_151 (by decide) ?_
          cases hf
          refine W.widen (k := 0) (n := 0) (Nat.le_of_ble_eq_true rfl) (Nat.le_of_ble_eq_true rfl) ?_
          exact x_zret C h (by decide) dX7_isTasteLine_152
        · have hf := hf_t hc hf
          refine lv_iconst (v := 0) hx hb dX7_isTasteLine_145 (by decide) ?_
          cases hf
          refine W.widen (k := 0) (n := 0) (Nat.le_of_ble_eq_true rfl) (Nat.le_of_ble_eq_true rfl) ?_
          exact x_zret C h (by decide) dX7_isTasteLine_146
      intro j133 hj133 hf
      refine lv_icmp_ne (tgt := 133) hx hb dX7_isTasteLine_117 (by decide) (fun hc => ?_) (fun hc => ?_)
      · have hf := hf_f hc hf
        exact hj133 _ hf _ _ _ h (lv_sub hl [0, 1] rfl)
      · have hf := hf_t hc hf
        refine lv_aload_n hx hb dX7_isTasteLine_120 rfl (lv_at hl 0 rfl) ?_
        refine lv_iload_n hx hb dX7_isTasteLine_121 rfl (lv_at hl 1 rfl) ?_
        refine lv_iconst (v := 1) hx hb dX7_isTasteLine_122 (by decide) ?_
        refine lv_iadd hx hb dX7_isTasteLine_123 ?_
        refine lv_iconst (v := 3) hx hb dX7_isTasteLine_124 (by decide) ?_
        obtain ⟨hk, hf⟩ := k_of hf
        obtain ⟨⟨x16, σ17⟩, hc, hf⟩ := hf_b hf
        have hf := hf_u2 hf
        refine x_cV (q := (RX7, TX7, 50)) (rest := []) (As := [.int (a1 + 1), .int 3]) (n := 2) (ov := (some (.int x16))) G C h (wX7_isNumber G hc) hk rfl (lw_V q1317 q1319 qs35 q61 q1320) (by decide +kernel) ⟨Nat.le_of_ble_eq_true rfl, Nat.le_of_ble_eq_true rfl⟩ rfl rfl rfl hl.1 rfl (Nat.le_of_ble_eq_true rfl) dX7_isTasteLine_125 ⟨(Nat.le_of_ble_eq_true rfl), (Nat.le_of_ble_eq_true rfl)⟩ (fun H locs h => ?_)
        refine lv_if_ne (tgt := 133) hx hb dX7_isTasteLine_128 (by decide) (fun hc => ?_) (fun hc => ?_)
        · have hf := hf_f hc hf
          exact hj133 _ hf _ _ _ h (lv_sub hl [0, 1] rfl)
        · have hf := hf_t hc hf
          refine lv_iconst (v := 0) hx hb dX7_isTasteLine_131 (by decide) ?_
          cases hf
          refine W.widen (k := 0) (n := 0) (Nat.le_of_ble_eq_true rfl) (Nat.le_of_ble_eq_true rfl) ?_
          exact x_zret C h (by decide) dX7_isTasteLine_132
    · have hf := hf_t hc hf
      refine lv_aload_n hx hb dX7_isTasteLine_105 rfl (lv_at hl 0 rfl) ?_
      obtain ⟨hk, hf⟩ := k_of hf
      obtain ⟨⟨x22, σ23⟩, hc, hf⟩ := hf_b hf
      have hf := hf_u2 hf
      refine x_cV (q := (RX7, TX7, 50)) (rest := []) (As := []) (n := 0) (ov := (some (.int x22))) G C h (wX7_fails G hc) hk rfl (lw_V q1313 q1315 qs34 q61 q1316) (by decide +kernel) ⟨Nat.le_of_ble_eq_true rfl, Nat.le_of_ble_eq_true rfl⟩ rfl rfl rfl hl.1 rfl (Nat.le_of_ble_eq_true rfl) dX7_isTasteLine_106 ⟨(Nat.le_of_ble_eq_true rfl), (Nat.le_of_ble_eq_true rfl)⟩ (fun H locs h => ?_)
      obtain ⟨hz, hf⟩ := bz_of hf
      cases hf
      refine W.widen (k := 0) (n := 0) (Nat.le_of_ble_eq_true rfl) (Nat.le_of_ble_eq_true rfl) ?_
      exact x_zret C h hz dX7_isTasteLine_109
  intro j85 hj85 hf
  refine lv_if_ne (tgt := 24) hx hb dX7_isTasteLine_17 (by decide) (fun hc => ?_) (fun hc => ?_)
  · have hf := hf_f hc hf
    refine lv_aload_n hx hb dX7_isTasteLine_24 rfl (lv_at hl 0 rfl) ?_
    refine x_gL (q := (RX7, TX7, 50)) (j := 22) G C h rfl (by decide) (fun _ _ _ => rfl) (lk C q1078) (fun _ z => z) dX7_isTasteLine_25 hf (fun y4 hf => ?_)
    refine lv_ldc2 (v := 51266052) hx hb C.2.2.2.1 (C.2.2.2.2.1 _ q1340) dX7_isTasteLine_28 ?_
    refine W.lcmp hx hb dX7_isTasteLine_31 ?_
    refine lv_if_ne (tgt := 39) hx hb dX7_isTasteLine_32 (by decide) (fun hc => ?_) (fun hc => ?_)
    · have hf := hf_f hc hf
      refine lv_aload_n hx hb dX7_isTasteLine_39 rfl (lv_at hl 0 rfl) ?_
      refine x_gL (q := (RX7, TX7, 50)) (j := 22) G C h rfl (by decide) (fun _ _ _ => rfl) (lk C q1078) (fun _ z => z) dX7_isTasteLine_40 hf (fun y5 hf => ?_)
      refine lv_ldc2 (v := 381245) hx hb C.2.2.2.1 (C.2.2.2.2.1 _ q1341) dX7_isTasteLine_43 ?_
      refine W.lcmp hx hb dX7_isTasteLine_46 ?_
      refine lv_if_ne (tgt := 54) hx hb dX7_isTasteLine_47 (by decide) (fun hc => ?_) (fun hc => ?_)
      · have hf := hf_f hc hf
        refine lv_aload_n hx hb dX7_isTasteLine_54 rfl (lv_at hl 0 rfl) ?_
        refine x_gL (q := (RX7, TX7, 50)) (j := 22) G C h rfl (by decide) (fun _ _ _ => rfl) (lk C q1078) (fun _ z => z) dX7_isTasteLine_55 hf (fun y6 hf => ?_)
        refine lv_ldc2 (v := 13550) hx hb C.2.2.2.1 (C.2.2.2.2.1 _ q1342) dX7_isTasteLine_58 ?_
        refine W.lcmp hx hb dX7_isTasteLine_61 ?_
        refine lv_if_ne (tgt := 69) hx hb dX7_isTasteLine_62 (by decide) (fun hc => ?_) (fun hc => ?_)
        · have hf := hf_f hc hf
          refine lv_aload_n hx hb dX7_isTasteLine_69 rfl (lv_at hl 0 rfl) ?_
          refine x_gL (q := (RX7, TX7, 50)) (j := 22) G C h rfl (by decide) (fun _ _ _ => rfl) (lk C q1078) (fun _ z => z) dX7_isTasteLine_70 hf (fun y7 hf => ?_)
          refine lv_ldc2 (v := 6476969) hx hb C.2.2.2.1 (C.2.2.2.2.1 _ q1343) dX7_isTasteLine_73 ?_
          refine W.lcmp hx hb dX7_isTasteLine_76 ?_
          refine lv_if_ne (tgt := 84) hx hb dX7_isTasteLine_77 (by decide) (fun hc => ?_) (fun hc => ?_)
          · have hf := hf_f hc hf
            refine lv_iconst (v := (-1)) hx hb dX7_isTasteLine_84 (by decide) ?_
            exact hj85 _ hf _ _ _ h (lv_sub hl [0, 1] rfl)
          · have hf := hf_t hc hf
            refine lv_iconst (v := 4) hx hb dX7_isTasteLine_80 (by decide) ?_
            refine lv_goto (tgt := 85) hx hb dX7_isTasteLine_81 (by decide) ?_
            exact hj85 _ hf _ _ _ h (lv_sub hl [0, 1] rfl)
        · have hf := hf_t hc hf
          refine lv_iconst (v := 3) hx hb dX7_isTasteLine_65 (by decide) ?_
          refine lv_goto (tgt := 85) hx hb dX7_isTasteLine_66 (by decide) ?_
          exact hj85 _ hf _ _ _ h (lv_sub hl [0, 1] rfl)
      · have hf := hf_t hc hf
        refine lv_iconst (v := 2) hx hb dX7_isTasteLine_50 (by decide) ?_
        refine lv_goto (tgt := 85) hx hb dX7_isTasteLine_51 (by decide) ?_
        exact hj85 _ hf _ _ _ h (lv_sub hl [0, 1] rfl)
    · have hf := hf_t hc hf
      refine lv_iconst (v := 1) hx hb dX7_isTasteLine_35 (by decide) ?_
      refine lv_goto (tgt := 85) hx hb dX7_isTasteLine_36 (by decide) ?_
      exact hj85 _ hf _ _ _ h (lv_sub hl [0, 1] rfl)
  · have hf := hf_t hc hf
    refine lv_iconst (v := 0) hx hb dX7_isTasteLine_20 (by decide) ?_
    refine lv_goto (tgt := 85) hx hb dX7_isTasteLine_21 (by decide) ?_
    exact hj85 _ hf _ _ _ h (lv_sub hl [0, 1] rfl)

theorem dX7_isRead_0 : decode cX7_isRead 0 = .ok (.aload_n 0, 1) := by decide +kernel
theorem dX7_isRead_1 : decode cX7_isRead 1 = .ok (.iconst 0, 1) := by decide +kernel
theorem dX7_isRead_2 : decode cX7_isRead 2 = .ok (.putfield 167, 3) := by decide +kernel
theorem dX7_isRead_5 : decode cX7_isRead 5 = .ok (.aload_n 0, 1) := by decide +kernel
theorem dX7_isRead_6 : decode cX7_isRead 6 = .ok (.iconst 0, 1) := by decide +kernel
theorem dX7_isRead_7 : decode cX7_isRead 7 = .ok (.putfield 252, 3) := by decide +kernel
theorem dX7_isRead_10 : decode cX7_isRead 10 = .ok (.iconst 1, 1) := by decide +kernel
theorem dX7_isRead_11 : decode cX7_isRead 11 = .ok (.istore_n 2, 1) := by decide +kernel
theorem dX7_isRead_12 : decode cX7_isRead 12 = .ok (.iload_n 2, 1) := by decide +kernel
theorem dX7_isRead_13 : decode cX7_isRead 13 = .ok (.ifCond .eq 87, 3) := by decide +kernel
theorem dX7_isRead_16 : decode cX7_isRead 16 = .ok (.iload_n 1, 1) := by decide +kernel
theorem dX7_isRead_17 : decode cX7_isRead 17 = .ok (.ifCond .ne 20, 3) := by decide +kernel
theorem dX7_isRead_20 : decode cX7_isRead 20 = .ok (.aload_n 0, 1) := by decide +kernel
theorem dX7_isRead_21 : decode cX7_isRead 21 = .ok (.bipush 12, 2) := by decide +kernel
theorem dX7_isRead_23 : decode cX7_isRead 23 = .ok (.aload_n 0, 1) := by decide +kernel
theorem dX7_isRead_24 : decode cX7_isRead 24 = .ok (.getfield 252, 3) := by decide +kernel
theorem dX7_isRead_27 : decode cX7_isRead 27 = .ok (.imul, 1) := by decide +kernel
theorem dX7_isRead_28 : decode cX7_isRead 28 = .ok (.invokevirtual 255, 3) := by decide +kernel
theorem dX7_isRead_31 : decode cX7_isRead 31 = .ok (.ifCond .ne 21, 3) := by decide +kernel
theorem dX7_isRead_34 : decode cX7_isRead 34 = .ok (.goto 16, 3) := by decide +kernel
theorem dX7_isRead_37 : decode cX7_isRead 37 = .ok (.aload_n 0, 1) := by decide +kernel
theorem dX7_isRead_38 : decode cX7_isRead 38 = .ok (.iconst 3, 1) := by decide +kernel
theorem dX7_isRead_39 : decode cX7_isRead 39 = .ok (.aload_n 0, 1) := by decide +kernel
theorem dX7_isRead_40 : decode cX7_isRead 40 = .ok (.getfield 252, 3) := by decide +kernel
theorem dX7_isRead_43 : decode cX7_isRead 43 = .ok (.imul, 1) := by decide +kernel
theorem dX7_isRead_44 : decode cX7_isRead 44 = .ok (.invokevirtual 258, 3) := by decide +kernel
theorem dX7_isRead_47 : decode cX7_isRead 47 = .ok (.ifCond .ne 5, 3) := by decide +kernel
theorem dX7_isRead_50 : decode cX7_isRead 50 = .ok (.iconst 0, 1) := by decide +kernel
theorem dX7_isRead_51 : decode cX7_isRead 51 = .ok (.ireturn, 1) := by decide +kernel
theorem dX7_isRead_52 : decode cX7_isRead 52 = .ok (.aload_n 0, 1) := by decide +kernel
theorem dX7_isRead_53 : decode cX7_isRead 53 = .ok (.dup, 1) := by decide +kernel
theorem dX7_isRead_54 : decode cX7_isRead 54 = .ok (.getfield 252, 3) := by decide +kernel
theorem dX7_isRead_57 : decode cX7_isRead 57 = .ok (.iconst 1, 1) := by decide +kernel
theorem dX7_isRead_58 : decode cX7_isRead 58 = .ok (.iadd, 1) := by decide +kernel
theorem dX7_isRead_59 : decode cX7_isRead 59 = .ok (.putfield 252, 3) := by decide +kernel
theorem dX7_isRead_62 : decode cX7_isRead 62 = .ok (.aload_n 0, 1) := by decide +kernel
theorem dX7_isRead_63 : decode cX7_isRead 63 = .ok (.getfield 181, 3) := by decide +kernel
theorem dX7_isRead_66 : decode cX7_isRead 66 = .ok (.ldc2_w 193, 3) := by decide +kernel
theorem dX7_isRead_69 : decode cX7_isRead 69 = .ok (.lcmp, 1) := by decide +kernel
theorem dX7_isRead_70 : decode cX7_isRead 70 = .ok (.ifCond .ne 25, 3) := by decide +kernel
theorem dX7_isRead_73 : decode cX7_isRead 73 = .ok (.aload_n 0, 1) := by decide +kernel
theorem dX7_isRead_74 : decode cX7_isRead 74 = .ok (.getfield 252, 3) := by decide +kernel
theorem dX7_isRead_77 : decode cX7_isRead 77 = .ok (.iload_n 1, 1) := by decide +kernel
theorem dX7_isRead_78 : decode cX7_isRead 78 = .ok (.ifCond .ne 8, 3) := by decide +kernel
theorem dX7_isRead_81 : decode cX7_isRead 81 = .ok (.bipush 6, 2) := by decide +kernel
theorem dX7_isRead_83 : decode cX7_isRead 83 = .ok (.goto 5, 3) := by decide +kernel
theorem dX7_isRead_86 : decode cX7_isRead 86 = .ok (.bipush 8, 2) := by decide +kernel
theorem dX7_isRead_88 : decode cX7_isRead 88 = .ok (.if_icmp .ge 7, 3) := by decide +kernel
theorem dX7_isRead_91 : decode cX7_isRead 91 = .ok (.iconst 1, 1) := by decide +kernel
theorem dX7_isRead_92 : decode cX7_isRead 92 = .ok (.goto 4, 3) := by decide +kernel
theorem dX7_isRead_95 : decode cX7_isRead 95 = .ok (.iconst 0, 1) := by decide +kernel
theorem dX7_isRead_96 : decode cX7_isRead 96 = .ok (.istore_n 2, 1) := by decide +kernel
theorem dX7_isRead_97 : decode cX7_isRead 97 = .ok (.goto (-85), 3) := by decide +kernel
theorem dX7_isRead_100 : decode cX7_isRead 100 = .ok (.aload_n 0, 1) := by decide +kernel
theorem dX7_isRead_101 : decode cX7_isRead 101 = .ok (.getfield 181, 3) := by decide +kernel
theorem dX7_isRead_104 : decode cX7_isRead 104 = .ok (.ldc2_w 179, 3) := by decide +kernel
theorem dX7_isRead_107 : decode cX7_isRead 107 = .ok (.lcmp, 1) := by decide +kernel
theorem dX7_isRead_108 : decode cX7_isRead 108 = .ok (.ifCond .eq 10, 3) := by decide +kernel
theorem dX7_isRead_111 : decode cX7_isRead 111 = .ok (.aload_n 0, 1) := by decide +kernel
theorem dX7_isRead_112 : decode cX7_isRead 112 = .ok (.invokevirtual 201, 3) := by decide +kernel
theorem dX7_isRead_115 : decode cX7_isRead 115 = .ok (.ifCond .eq 7, 3) := by decide +kernel
theorem dX7_isRead_118 : decode cX7_isRead 118 = .ok (.iconst 1, 1) := by decide +kernel
theorem dX7_isRead_119 : decode cX7_isRead 119 = .ok (.goto 4, 3) := by decide +kernel
theorem dX7_isRead_122 : decode cX7_isRead 122 = .ok (.iconst 0, 1) := by decide +kernel
theorem dX7_isRead_123 : decode cX7_isRead 123 = .ok (.ireturn, 1) := by decide +kernel
def lX7_isRead_12 (a0 : Nat) (a1 : Int32) (σ3 : St) (x4 : Int32) : Option ((St × Int32) ⊕ ((St) ⊕ ((St) ⊕ (St)))) :=
  if x4 = 0 then
    some (.inr (.inr (.inr σ3)))
  else
  jn (fun (σ11 : St) =>
    o_gI σ11 a0 5 26 fun x12 =>
    o_pI σ11 a0 5 26 (x12 + 1) fun σ13 =>
    o_gL σ13 a0 5 22 fun y14 =>
    jn (fun (x17 : Int32) =>
      some (.inl (σ13, x17))) fun j96 =>
    jn (fun (_ : Unit) =>
      j96 0) fun j95 =>
    if (lg_cmp y14 ((-3))) = 0 then
      o_gI σ13 a0 5 26 fun x15 =>
      jn (fun (x16 : Int32) =>
        if x16 ≤ x15 then
          j95 ()
        else
        j96 1) fun j88 =>
      if a1 = 0 then
        j88 6
      else
      j88 8
    else
    j95 ()) fun j52 =>
  if a1 = 0 then
    o_gI σ3 a0 5 26 fun x8 =>
    o_k σ3 a0 5 <|
    (fX7_isHabitLine σ3 a0 (12 * x8)).bind <| un2 fun x9 σ10 =>
    if x9 = 0 then
      some (.inr (.inl σ10))
    else
    j52 σ10
  else
  o_gI σ3 a0 5 26 fun x5 =>
  o_k σ3 a0 5 <|
  (fX7_isTasteLine σ3 a0 (3 * x5)).bind <| un2 fun x6 σ7 =>
  if x6 = 0 then
    some (.inr (.inr (.inl σ7)))
  else
  j52 σ7

def fX7_isRead (σ : St) (a0 : Nat) (a1 : Int32) : Option (Int32 × St) :=
  o_pI σ a0 5 20 0 fun σ1 =>
  o_pI σ1 a0 5 26 0 fun σ2 =>
  (loopF fuel (fun z => lX7_isRead_12 a0 a1 z.1 z.2) (σ2, 1)).bind <| sm (  fun σ18 =>
    some (0, σ18)) <| sm (  fun σ19 =>
    some (0, σ19)) <| fun σ20 =>
  o_gL σ20 a0 5 22 fun y21 =>
  jn (fun (σ24 : St) =>
    some (1, σ24)) fun j118 =>
  if (lg_cmp y21 ((-2))) = 0 then
    j118 σ20
  else
  o_k σ20 a0 5 <|
  (fX7_fails σ20 a0).bind <| un2 fun x22 σ23 =>
  if x22 = 0 then
    some (0, σ23)
  else
  j118 σ23

set_option maxHeartbeats 4000000 in
theorem wX7_isRead {l : Launch} {s0 : State} {A0 : Array Value} {D : va_G} {ac : Nat → ClassId} (G : Gl s0 A0 D ac) {σ : St} {a0 : Nat} {a1 : Int32} {v : Int32} {σ' : St} (hf : fX7_isRead σ a0 a1 = some (v, σ')) : Met l yX7_isRead (ws_ yX7_isRead cX7_isRead 3 (some (.boolean))) ({ frames := 5, cells := 0, slots := 0, locals := 108 } : Room) (Pn s0 D ac [.ref a0, .int a1] σ) (Qn s0 D ac (some (.int v)) σ') 0 0 (fr s0) := by
  refine x_met (by decide) (Nat.le_of_ble_eq_true rfl) ?_
  intro p e s m args below meth c ls C hnm h hl
  have C : Cx s0 p s m args meth c cX7_isRead 3 "HutForShowModel" (some (.boolean)) := C
  have hx := C.1
  have hb := C.2.1
  have hl : lv_has ls 3 [(0, .ref a0), (1, .int a1)] := hl
  unfold fX7_isRead at hf
  refine lv_aload_n hx hb dX7_isRead_0 rfl (lv_at hl 0 rfl) ?_
  refine lv_iconst (v := 0) hx hb dX7_isRead_1 (by decide) ?_
  refine x_pI (q := (RX7, TX7, 50)) (j := 20) G C h rfl (by decide) rfl (lk C q1076) (fun _ z => z) (Or.inl rfl) dX7_isRead_2 hf (fun σ1 H locs h hf => ?_)
  refine lv_aload_n hx hb dX7_isRead_5 rfl (lv_at hl 0 rfl) ?_
  refine lv_iconst (v := 0) hx hb dX7_isRead_6 (by decide) ?_
  refine x_pI (q := (RX7, TX7, 50)) (j := 26) G C h rfl (by decide) rfl (lk C q1082) (fun _ z => z) (Or.inl rfl) dX7_isRead_7 hf (fun σ2 H locs h hf => ?_)
  refine lv_iconst (v := 1) hx hb dX7_isRead_10 (by decide) ?_
  refine lv_istore_n (lv' := [(2, .int 1), (0, .ref a0), (1, .int a1)]) hx hb dX7_isRead_11 rfl hl (by decide) rfl (fun ls hl => ?_)
  obtain ⟨e12, hL, hK⟩ := hf_b hf
  have hE12_0 : ∀ (σ18 : St), (.inl σ18) = e12 → ∀  (H : Heap) (locs : List Loc) (ls : Array Slot), Hs s0 D ac σ18 H locs → lv_has ls 3 [(0, .ref a0), (1, .int a1)] → W p l e ({ frames := 5, cells := 0, slots := 0, locals := 108 } : Room) s m args below meth c H locs 0 0 (MQ below (Qn s0 D ac (some (.int v)) σ') args s 0 0 (fr s0)) (F0 m 34 ls []) := by
    intro σ18 he H locs ls h hl
    subst he
    have hf := hK
    have hf := hf_sl hf
    refine lv_goto (tgt := 50) hx hb dX7_isRead_34 (by decide) ?_
    refine lv_iconst (v := 0) hx hb dX7_isRead_50 (by decide) ?_
    cases hf
    refine W.widen (k := 0) (n := 0) (Nat.le_of_ble_eq_true rfl) (Nat.le_of_ble_eq_true rfl) ?_
    exact x_zret C h (by decide) dX7_isRead_51
  have hE12_1 : ∀ (σ19 : St), (.inr (.inl σ19)) = e12 → ∀  (H : Heap) (locs : List Loc) (ls : Array Slot), Hs s0 D ac σ19 H locs → lv_has ls 3 [(0, .ref a0), (1, .int a1)] → W p l e ({ frames := 5, cells := 0, slots := 0, locals := 108 } : Room) s m args below meth c H locs 0 0 (MQ below (Qn s0 D ac (some (.int v)) σ') args s 0 0 (fr s0)) (F0 m 50 ls []) := by
    intro σ19 he H locs ls h hl
    subst he
    have hf := hK
    have hf := hf_sr hf
    have hf := hf_sl hf
    refine lv_iconst (v := 0) hx hb dX7_isRead_50 (by decide) ?_
    cases hf
    refine W.widen (k := 0) (n := 0) (Nat.le_of_ble_eq_true rfl) (Nat.le_of_ble_eq_true rfl) ?_
    exact x_zret C h (by decide) dX7_isRead_51
  have hE12_2 : ∀ (σ20 : St), (.inr (.inr σ20)) = e12 → ∀  (H : Heap) (locs : List Loc) (ls : Array Slot), Hs s0 D ac σ20 H locs → lv_has ls 3 [(0, .ref a0), (1, .int a1)] → W p l e ({ frames := 5, cells := 0, slots := 0, locals := 108 } : Room) s m args below meth c H locs 0 0 (MQ below (Qn s0 D ac (some (.int v)) σ') args s 0 0 (fr s0)) (F0 m 100 ls []) := by
    intro σ20 he H locs ls h hl
    subst he
    have hf := hK
    have hf := hf_sr hf
    have hf := hf_sr hf
    refine lv_aload_n hx hb dX7_isRead_100 rfl (lv_at hl 0 rfl) ?_
    refine x_gL (q := (RX7, TX7, 50)) (j := 22) G C h rfl (by decide) (fun _ _ _ => rfl) (lk C q1078) (fun _ z => z) dX7_isRead_101 hf (fun y21 hf => ?_)
    refine lv_ldc2 (v := (-2)) hx hb C.2.2.2.1 (C.2.2.2.2.1 _ q1302) dX7_isRead_104 ?_
    refine W.lcmp hx hb dX7_isRead_107 ?_
    refine jn_of (P := fun j => ∀ (σ24 : St), j σ24 = some (v, σ') → ∀ (H : Heap) (locs : List Loc) (ls : Array Slot), Hs s0 D ac σ24 H locs → lv_has ls 3 [(0, .ref a0), (1, .int a1)] → W p l e ({ frames := 5, cells := 0, slots := 0, locals := 108 } : Room) s m args below meth c H locs 0 0 (MQ below (Qn s0 D ac (some (.int v)) σ') args s 0 0 (fr s0)) (F0 m 118 ls [])) hf ?_ ?_
    · intro σ24 hf H locs ls h hl
      refine lv_iconst (v := 1) hx hb dX7_isRead_118 (by decide) ?_
      refine lv_goto (tgt := 123) hx hb dX7_isRead_119 (by decide) ?_
      cases hf
      refine W.widen (k := 0) (n := 0) (Nat.le_of_ble_eq_true rfl) (Nat.le_of_ble_eq_true rfl) ?_
      exact x_zret C h (by decide) dX7_isRead_123
    intro j118 hj118 hf
    refine lv_if_eq (tgt := 118) hx hb dX7_isRead_108 (by decide) (fun hc => ?_) (fun hc => ?_)
    · have hf := hf_t hc hf
      exact hj118 _ hf _ _ _ h (lv_sub hl [0, 1] rfl)
    · have hf := hf_f hc hf
      refine lv_aload_n hx hb dX7_isRead_111 rfl (lv_at hl 0 rfl) ?_
      obtain ⟨hk, hf⟩ := k_of hf
      obtain ⟨⟨x22, σ23⟩, hc, hf⟩ := hf_b hf
      have hf := hf_u2 hf
      refine x_cV (q := (RX7, TX7, 50)) (rest := []) (As := []) (n := 0) (ov := (some (.int x22))) G C h (wX7_fails G hc) hk rfl (lw_V q1313 q1315 qs34 q61 q1316) (by decide +kernel) ⟨Nat.le_of_ble_eq_true rfl, Nat.le_of_ble_eq_true rfl⟩ rfl rfl rfl hl.1 rfl (Nat.le_of_ble_eq_true rfl) dX7_isRead_112 ⟨(Nat.le_of_ble_eq_true rfl), (Nat.le_of_ble_eq_true rfl)⟩ (fun H locs h => ?_)
      refine lv_if_eq (tgt := 122) hx hb dX7_isRead_115 (by decide) (fun hc => ?_) (fun hc => ?_)
      · have hf := hf_t hc hf
        refine lv_iconst (v := 0) hx hb dX7_isRead_122 (by decide) ?_
        cases hf
        refine W.widen (k := 0) (n := 0) (Nat.le_of_ble_eq_true rfl) (Nat.le_of_ble_eq_true rfl) ?_
        exact x_zret C h (by decide) dX7_isRead_123
      · have hf := hf_f hc hf
        exact hj118 _ hf _ _ _ h (lv_sub hl [0, 1] rfl)
  refine loopF_ind (P := fun z => ∀ (H : Heap) (locs : List Loc) (ls : Array Slot), Hs s0 D ac (z.1) H locs → lv_has ls 3 [(0, .ref a0), (1, .int a1), (2, .int z.2)] → W p l e ({ frames := 5, cells := 0, slots := 0, locals := 108 } : Room) s m args below meth c H locs 0 0 (MQ below (Qn s0 D ac (some (.int v)) σ') args s 0 0 (fr s0)) (F0 m 12 ls [])) ?_ _ _ hL _ _ _ h (lv_sub hl [1, 2, 0] rfl)
  clear hK hL h hl hf
  intro z o hf ih hX H locs ls h hl
  obtain ⟨σ3, x4⟩ := z
  have h : Hs s0 D ac σ3 H locs := h
  have hl : lv_has ls 3 [(0, .ref a0), (1, .int a1), (2, .int x4)] := hl
  have hf : lX7_isRead_12 a0 a1 σ3 x4 = some o := hf
  unfold lX7_isRead_12 at hf
  refine lv_iload_n hx hb dX7_isRead_12 rfl (lv_at hl 2 rfl) ?_
  refine lv_if_eq (tgt := 100) hx hb dX7_isRead_13 (by decide) (fun hc => ?_) (fun hc => ?_)
  · have hf := hf_t hc hf
    cases hf
    exact hE12_2 _ (hX _ rfl) _ _ _ h (lv_sub hl [0, 1] rfl)
  · have hf := hf_f hc hf
    refine lv_iload_n hx hb dX7_isRead_16 rfl (lv_at hl 1 rfl) ?_
    refine jn_of (P := fun j => ∀ (σ11 : St), j σ11 = some o → ∀ (H : Heap) (locs : List Loc) (ls : Array Slot), Hs s0 D ac σ11 H locs → lv_has ls 3 [(0, .ref a0), (1, .int a1), (2, .int x4)] → W p l e ({ frames := 5, cells := 0, slots := 0, locals := 108 } : Room) s m args below meth c H locs 0 0 (MQ below (Qn s0 D ac (some (.int v)) σ') args s 0 0 (fr s0)) (F0 m 52 ls [])) hf ?_ ?_
    · intro σ11 hf H locs ls h hl
      refine lv_aload_n hx hb dX7_isRead_52 rfl (lv_at hl 0 rfl) ?_
      refine lv_dup hx hb dX7_isRead_53 rfl ?_
      refine x_gI (q := (RX7, TX7, 50)) (j := 26) G C h rfl (by decide) (fun _ _ _ => rfl) (lk C q1082) (fun _ z => z) dX7_isRead_54 hf (fun x12 hf => ?_)
      refine lv_iconst (v := 1) hx hb dX7_isRead_57 (by decide) ?_
      refine lv_iadd hx hb dX7_isRead_58 ?_
      refine x_pI (q := (RX7, TX7, 50)) (j := 26) G C h rfl (by decide) rfl (lk C q1082) (fun _ z => z) (Or.inl rfl) dX7_isRead_59 hf (fun σ13 H locs h hf => ?_)
      refine lv_aload_n hx hb dX7_isRead_62 rfl (lv_at hl 0 rfl) ?_
      refine x_gL (q := (RX7, TX7, 50)) (j := 22) G C h rfl (by decide) (fun _ _ _ => rfl) (lk C q1078) (fun _ z => z) dX7_isRead_63 hf (fun y14 hf => ?_)
      refine lv_ldc2 (v := (-3)) hx hb C.2.2.2.1 (C.2.2.2.2.1 _ q1307) dX7_isRead_66 ?_
      refine W.lcmp hx hb dX7_isRead_69 ?_
      refine jn_of (P := fun j => ∀ (x17 : Int32), j x17 = some o → ∀ (H : Heap) (locs : List Loc) (ls : Array Slot), Hs s0 D ac σ13 H locs → lv_has ls 3 [(0, .ref a0), (1, .int a1), (2, .int x4)] → W p l e ({ frames := 5, cells := 0, slots := 0, locals := 108 } : Room) s m args below meth c H locs 0 0 (MQ below (Qn s0 D ac (some (.int v)) σ') args s 0 0 (fr s0)) (F0 m 96 ls [.int x17])) hf ?_ ?_
      · intro x17 hf H locs ls h hl
        refine lv_istore_n (lv' := [(2, .int x17), (0, .ref a0), (1, .int a1)]) hx hb dX7_isRead_96 rfl hl (by decide) rfl (fun ls hl => ?_)
        refine lv_goto (tgt := 12) hx hb dX7_isRead_97 (by decide) ?_
        cases hf
        exact ih _ rfl _ _ _ h (lv_sub hl [1, 2, 0] rfl)
      intro j96 hj96 hf
      refine jn_of (P := fun j => ∀ (u0 : Unit), j u0 = some o → ∀ (H : Heap) (locs : List Loc) (ls : Array Slot), Hs s0 D ac σ13 H locs → lv_has ls 3 [(0, .ref a0), (1, .int a1), (2, .int x4)] → W p l e ({ frames := 5, cells := 0, slots := 0, locals := 108 } : Room) s m args below meth c H locs 0 0 (MQ below (Qn s0 D ac (some (.int v)) σ') args s 0 0 (fr s0)) (F0 m 95 ls [])) hf ?_ ?_
      · intro u0 hf H locs ls h hl
        refine lv_iconst (v := 0) hx hb dX7_isRead_95 (by decide) ?_
        exact hj96 _ hf _ _ _ h (lv_sub hl [0, 1, 2] rfl)
      intro j95 hj95 hf
      refine lv_if_ne (tgt := 95) hx hb dX7_isRead_70 (by decide) (fun hc => ?_) (fun hc => ?_)
      · have hf := hf_f hc hf
        exact hj95 () hf _ _ _ h (lv_sub hl [0, 1, 2] rfl)
      · have hf := hf_t hc hf
        refine lv_aload_n hx hb dX7_isRead_73 rfl (lv_at hl 0 rfl) ?_
        refine x_gI (q := (RX7, TX7, 50)) (j := 26) G C h rfl (by decide) (fun _ _ _ => rfl) (lk C q1082) (fun _ z => z) dX7_isRead_74 hf (fun x15 hf => ?_)
        refine lv_iload_n hx hb dX7_isRead_77 rfl (lv_at hl 1 rfl) ?_
        refine jn_of (P := fun j => ∀ (x16 : Int32), j x16 = some o → ∀ (H : Heap) (locs : List Loc) (ls : Array Slot), Hs s0 D ac σ13 H locs → lv_has ls 3 [(0, .ref a0), (1, .int a1), (2, .int x4)] → W p l e ({ frames := 5, cells := 0, slots := 0, locals := 108 } : Room) s m args below meth c H locs 0 0 (MQ below (Qn s0 D ac (some (.int v)) σ') args s 0 0 (fr s0)) (F0 m 88 ls [.int x16, .int x15])) hf ?_ ?_
        · intro x16 hf H locs ls h hl
          refine lv_icmp_ge (tgt := 95) hx hb dX7_isRead_88 (by decide) (fun hc => ?_) (fun hc => ?_)
          · have hf := hf_t hc hf
            exact hj95 () hf _ _ _ h (lv_sub hl [0, 1, 2] rfl)
          · have hf := hf_f hc hf
            refine lv_iconst (v := 1) hx hb dX7_isRead_91 (by decide) ?_
            refine lv_goto (tgt := 96) hx hb dX7_isRead_92 (by decide) ?_
            exact hj96 _ hf _ _ _ h (lv_sub hl [0, 1, 2] rfl)
        intro j88 hj88 hf
        refine lv_if_ne (tgt := 86) hx hb dX7_isRead_78 (by decide) (fun hc => ?_) (fun hc => ?_)
        · have hf := hf_f hc hf
          refine lv_bipush (v := 8) hx hb dX7_isRead_86 (by decide) ?_
          exact hj88 _ hf _ _ _ h (lv_sub hl [0, 1, 2] rfl)
        · have hf := hf_t hc hf
          refine lv_bipush (v := 6) hx hb dX7_isRead_81 (by decide) ?_
          refine lv_goto (tgt := 88) hx hb dX7_isRead_83 (by decide) ?_
          exact hj88 _ hf _ _ _ h (lv_sub hl [0, 1, 2] rfl)
    intro j52 hj52 hf
    refine lv_if_ne (tgt := 37) hx hb dX7_isRead_17 (by decide) (fun hc => ?_) (fun hc => ?_)
    · have hf := hf_f hc hf
      refine lv_aload_n hx hb dX7_isRead_37 rfl (lv_at hl 0 rfl) ?_
      refine lv_iconst (v := 3) hx hb dX7_isRead_38 (by decide) ?_
      refine lv_aload_n hx hb dX7_isRead_39 rfl (lv_at hl 0 rfl) ?_
      refine x_gI (q := (RX7, TX7, 50)) (j := 26) G C h rfl (by decide) (fun _ _ _ => rfl) (lk C q1082) (fun _ z => z) dX7_isRead_40 hf (fun x5 hf => ?_)
      refine lv_imul hx hb dX7_isRead_43 ?_
      obtain ⟨hk, hf⟩ := k_of hf
      obtain ⟨⟨x6, σ7⟩, hc, hf⟩ := hf_b hf
      have hf := hf_u2 hf
      refine x_cV (q := (RX7, TX7, 50)) (rest := []) (As := [.int (3 * x5)]) (n := 1) (ov := (some (.int x6))) G C h (wX7_isTasteLine G hc) hk rfl (lw_V q1335 q1337 qs37 q61 q1338) (by decide +kernel) ⟨Nat.le_of_ble_eq_true rfl, Nat.le_of_ble_eq_true rfl⟩ rfl rfl rfl hl.1 rfl (Nat.le_of_ble_eq_true rfl) dX7_isRead_44 ⟨(Nat.le_of_ble_eq_true rfl), (Nat.le_of_ble_eq_true rfl)⟩ (fun H locs h => ?_)
      refine lv_if_ne (tgt := 52) hx hb dX7_isRead_47 (by decide) (fun hc => ?_) (fun hc => ?_)
      · have hf := hf_f hc hf
        exact hj52 _ hf _ _ _ h (lv_sub hl [0, 1, 2] rfl)
      · have hf := hf_t hc hf
        cases hf
        exact hE12_1 _ (hX _ rfl) _ _ _ h (lv_sub hl [0, 1] rfl)
    · have hf := hf_t hc hf
      refine lv_aload_n hx hb dX7_isRead_20 rfl (lv_at hl 0 rfl) ?_
      refine lv_bipush (v := 12) hx hb dX7_isRead_21 (by decide) ?_
      refine lv_aload_n hx hb dX7_isRead_23 rfl (lv_at hl 0 rfl) ?_
      refine x_gI (q := (RX7, TX7, 50)) (j := 26) G C h rfl (by decide) (fun _ _ _ => rfl) (lk C q1082) (fun _ z => z) dX7_isRead_24 hf (fun x8 hf => ?_)
      refine lv_imul hx hb dX7_isRead_27 ?_
      obtain ⟨hk, hf⟩ := k_of hf
      obtain ⟨⟨x9, σ10⟩, hc, hf⟩ := hf_b hf
      have hf := hf_u2 hf
      refine x_cV (q := (RX7, TX7, 50)) (rest := []) (As := [.int (12 * x8)]) (n := 1) (ov := (some (.int x9))) G C h (wX7_isHabitLine G hc) hk rfl (lw_V q1294 q1296 qs32 q61 q1297) (by decide +kernel) ⟨Nat.le_of_ble_eq_true rfl, Nat.le_of_ble_eq_true rfl⟩ rfl rfl rfl hl.1 rfl (Nat.le_of_ble_eq_true rfl) dX7_isRead_28 ⟨(Nat.le_of_ble_eq_true rfl), (Nat.le_of_ble_eq_true rfl)⟩ (fun H locs h => ?_)
      refine lv_if_ne (tgt := 52) hx hb dX7_isRead_31 (by decide) (fun hc => ?_) (fun hc => ?_)
      · have hf := hf_f hc hf
        exact hj52 _ hf _ _ _ h (lv_sub hl [0, 1, 2] rfl)
      · have hf := hf_t hc hf
        cases hf
        exact hE12_0 _ (hX _ rfl) _ _ _ h (lv_sub hl [0, 1] rfl)

theorem dX7_fault_0 : decode cX7_fault 0 = .ok (.iload_n 1, 1) := by decide +kernel
theorem dX7_fault_1 : decode cX7_fault 1 = .ok (.iconst 0, 1) := by decide +kernel
theorem dX7_fault_2 : decode cX7_fault 2 = .ok (.iconst 1, 1) := by decide +kernel
theorem dX7_fault_3 : decode cX7_fault 3 = .ok (.invokestatic 113, 3) := by decide +kernel
theorem dX7_fault_6 : decode cX7_fault 6 = .ok (.ifCond .ne 6, 3) := by decide +kernel
theorem dX7_fault_9 : decode cX7_fault 9 = .ok (.bipush (-3), 2) := by decide +kernel
theorem dX7_fault_11 : decode cX7_fault 11 = .ok (.ireturn, 1) := by decide +kernel
theorem dX7_fault_12 : decode cX7_fault 12 = .ok (.aload_n 0, 1) := by decide +kernel
theorem dX7_fault_13 : decode cX7_fault 13 = .ok (.iload_n 1, 1) := by decide +kernel
theorem dX7_fault_14 : decode cX7_fault 14 = .ok (.invokevirtual 261, 3) := by decide +kernel
theorem dX7_fault_17 : decode cX7_fault 17 = .ok (.ifCond .eq 7, 3) := by decide +kernel
theorem dX7_fault_20 : decode cX7_fault 20 = .ok (.iconst (-1), 1) := by decide +kernel
theorem dX7_fault_21 : decode cX7_fault 21 = .ok (.goto 7, 3) := by decide +kernel
theorem dX7_fault_24 : decode cX7_fault 24 = .ok (.aload_n 0, 1) := by decide +kernel
theorem dX7_fault_25 : decode cX7_fault 25 = .ok (.getfield 195, 3) := by decide +kernel
theorem dX7_fault_28 : decode cX7_fault 28 = .ok (.ireturn, 1) := by decide +kernel
def fX7_fault (σ : St) (a0 : Nat) (a1 : Int32) : Option (Int32 × St) :=
  (fX7_in σ a1 0 1).bind fun x1 =>
  if x1 = 0 then
    some ((-3), σ)
  else
  o_k σ a0 5 <|
  (fX7_isRead σ a0 a1).bind <| un2 fun x2 σ3 =>
  if x2 = 0 then
    o_gI σ3 a0 5 25 fun x4 =>
    some (x4, σ3)
  else
  some ((-1), σ3)

set_option maxHeartbeats 4000000 in
theorem wX7_fault {l : Launch} {s0 : State} {A0 : Array Value} {D : va_G} {ac : Nat → ClassId} (G : Gl s0 A0 D ac) {σ : St} {a0 : Nat} {a1 : Int32} {v : Int32} {σ' : St} (hf : fX7_fault σ a0 a1 = some (v, σ')) : Met l yX7_fault (ws_ yX7_fault cX7_fault 2 (some (.int))) ({ frames := 6, cells := 0, slots := 0, locals := 130 } : Room) (Pn s0 D ac [.ref a0, .int a1] σ) (Qn s0 D ac (some (.int v)) σ') 0 0 (fr s0) := by
  refine x_met (by decide) (Nat.le_of_ble_eq_true rfl) ?_
  intro p e s m args below meth c ls C hnm h hl
  have C : Cx s0 p s m args meth c cX7_fault 2 "HutForShowModel" (some (.int)) := C
  have hx := C.1
  have hb := C.2.1
  have hl : lv_has ls 2 [(0, .ref a0), (1, .int a1)] := hl
  unfold fX7_fault at hf
  refine lv_iload_n hx hb dX7_fault_0 rfl (lv_at hl 1 rfl) ?_
  refine lv_iconst (v := 0) hx hb dX7_fault_1 (by decide) ?_
  refine lv_iconst (v := 1) hx hb dX7_fault_2 (by decide) ?_
  obtain ⟨x1, hc, hf⟩ := hf_b hf
  refine x_cS (rest := []) (As := [.int a1, .int 0, .int 1]) (n := 3) (ov := (some (.int x1))) C h (wX7_in G hc) (lw_S q1211 q1212 q61 q1213) (by decide +kernel) ⟨Nat.le_of_ble_eq_true rfl, Nat.le_of_ble_eq_true rfl⟩ rfl rfl rfl hl.1 rfl (Nat.le_of_ble_eq_true rfl) dX7_fault_3 ⟨(Nat.le_of_ble_eq_true rfl), (Nat.le_of_ble_eq_true rfl)⟩ (fun H locs h => ?_)
  refine lv_if_ne (tgt := 12) hx hb dX7_fault_6 (by decide) (fun hc => ?_) (fun hc => ?_)
  · have hf := hf_f hc hf
    refine lv_aload_n hx hb dX7_fault_12 rfl (lv_at hl 0 rfl) ?_
    refine lv_iload_n hx hb dX7_fault_13 rfl (lv_at hl 1 rfl) ?_
    obtain ⟨hk, hf⟩ := k_of hf
    obtain ⟨⟨x2, σ3⟩, hc, hf⟩ := hf_b hf
    have hf := hf_u2 hf
    refine x_cV (q := (RX7, TX7, 50)) (rest := []) (As := [.int a1]) (n := 1) (ov := (some (.int x2))) G C h (wX7_isRead G hc) hk rfl (lw_V q1290 q1292 qs31 q61 q1293) (by decide +kernel) ⟨Nat.le_of_ble_eq_true rfl, Nat.le_of_ble_eq_true rfl⟩ rfl rfl rfl hl.1 rfl (Nat.le_of_ble_eq_true rfl) dX7_fault_14 ⟨(Nat.le_of_ble_eq_true rfl), (Nat.le_of_ble_eq_true rfl)⟩ (fun H locs h => ?_)
    refine lv_if_eq (tgt := 24) hx hb dX7_fault_17 (by decide) (fun hc => ?_) (fun hc => ?_)
    · have hf := hf_t hc hf
      refine lv_aload_n hx hb dX7_fault_24 rfl (lv_at hl 0 rfl) ?_
      refine x_gI (q := (RX7, TX7, 50)) (j := 25) G C h rfl (by decide) (fun _ _ _ => rfl) (lk C q1081) (fun _ z => z) dX7_fault_25 hf (fun x4 hf => ?_)
      cases hf
      refine W.widen (k := 0) (n := 0) (Nat.le_of_ble_eq_true rfl) (Nat.le_of_ble_eq_true rfl) ?_
      exact x_iret C h dX7_fault_28
    · have hf := hf_f hc hf
      refine lv_iconst (v := (-1)) hx hb dX7_fault_20 (by decide) ?_
      refine lv_goto (tgt := 28) hx hb dX7_fault_21 (by decide) ?_
      cases hf
      refine W.widen (k := 0) (n := 0) (Nat.le_of_ble_eq_true rfl) (Nat.le_of_ble_eq_true rfl) ?_
      exact x_iret C h dX7_fault_28
  · have hf := hf_t hc hf
    refine lv_bipush (v := (-3)) hx hb dX7_fault_9 (by decide) ?_
    cases hf
    refine W.widen (k := 0) (n := 0) (Nat.le_of_ble_eq_true rfl) (Nat.le_of_ble_eq_true rfl) ?_
    exact x_iret C h dX7_fault_11

theorem dX7_habit_0 : decode cX7_habit 0 = .ok (.aload_n 0, 1) := by decide +kernel
theorem dX7_habit_1 : decode cX7_habit 1 = .ok (.iload_n 1, 1) := by decide +kernel
theorem dX7_habit_2 : decode cX7_habit 2 = .ok (.invokevirtual 121, 3) := by decide +kernel
theorem dX7_habit_5 : decode cX7_habit 5 = .ok (.ifCond .ne 6, 3) := by decide +kernel
theorem dX7_habit_8 : decode cX7_habit 8 = .ok (.bipush (-2), 2) := by decide +kernel
theorem dX7_habit_10 : decode cX7_habit 10 = .ok (.ireturn, 1) := by decide +kernel
theorem dX7_habit_11 : decode cX7_habit 11 = .ok (.aload_n 0, 1) := by decide +kernel
theorem dX7_habit_12 : decode cX7_habit 12 = .ok (.iconst 0, 1) := by decide +kernel
theorem dX7_habit_13 : decode cX7_habit 13 = .ok (.invokevirtual 261, 3) := by decide +kernel
theorem dX7_habit_16 : decode cX7_habit 16 = .ok (.ifCond .ne 6, 3) := by decide +kernel
theorem dX7_habit_19 : decode cX7_habit 19 = .ok (.bipush (-4), 2) := by decide +kernel
theorem dX7_habit_21 : decode cX7_habit 21 = .ok (.ireturn, 1) := by decide +kernel
theorem dX7_habit_22 : decode cX7_habit 22 = .ok (.iconst 0, 1) := by decide +kernel
theorem dX7_habit_23 : decode cX7_habit 23 = .ok (.istore_n 2, 1) := by decide +kernel
theorem dX7_habit_24 : decode cX7_habit 24 = .ok (.iload_n 2, 1) := by decide +kernel
theorem dX7_habit_25 : decode cX7_habit 25 = .ok (.bipush 72, 2) := by decide +kernel
theorem dX7_habit_27 : decode cX7_habit 27 = .ok (.if_icmp .ge 26, 3) := by decide +kernel
theorem dX7_habit_30 : decode cX7_habit 30 = .ok (.aload_n 0, 1) := by decide +kernel
theorem dX7_habit_31 : decode cX7_habit 31 = .ok (.getfield 62, 3) := by decide +kernel
theorem dX7_habit_34 : decode cX7_habit 34 = .ok (.bipush 72, 2) := by decide +kernel
theorem dX7_habit_36 : decode cX7_habit 36 = .ok (.iload_n 1, 1) := by decide +kernel
theorem dX7_habit_37 : decode cX7_habit 37 = .ok (.imul, 1) := by decide +kernel
theorem dX7_habit_38 : decode cX7_habit 38 = .ok (.iload_n 2, 1) := by decide +kernel
theorem dX7_habit_39 : decode cX7_habit 39 = .ok (.iadd, 1) := by decide +kernel
theorem dX7_habit_40 : decode cX7_habit 40 = .ok (.aload_n 0, 1) := by decide +kernel
theorem dX7_habit_41 : decode cX7_habit 41 = .ok (.getfield 56, 3) := by decide +kernel
theorem dX7_habit_44 : decode cX7_habit 44 = .ok (.iload_n 2, 1) := by decide +kernel
theorem dX7_habit_45 : decode cX7_habit 45 = .ok (.iaload, 1) := by decide +kernel
theorem dX7_habit_46 : decode cX7_habit 46 = .ok (.iastore, 1) := by decide +kernel
theorem dX7_habit_47 : decode cX7_habit 47 = .ok (.iinc 2 1, 3) := by decide +kernel
theorem dX7_habit_50 : decode cX7_habit 50 = .ok (.goto (-26), 3) := by decide +kernel
theorem dX7_habit_53 : decode cX7_habit 53 = .ok (.aload_n 0, 1) := by decide +kernel
theorem dX7_habit_54 : decode cX7_habit 54 = .ok (.getfield 59, 3) := by decide +kernel
theorem dX7_habit_57 : decode cX7_habit 57 = .ok (.iload_n 1, 1) := by decide +kernel
theorem dX7_habit_58 : decode cX7_habit 58 = .ok (.aload_n 0, 1) := by decide +kernel
theorem dX7_habit_59 : decode cX7_habit 59 = .ok (.getfield 252, 3) := by decide +kernel
theorem dX7_habit_62 : decode cX7_habit 62 = .ok (.iastore, 1) := by decide +kernel
theorem dX7_habit_63 : decode cX7_habit 63 = .ok (.aload_n 0, 1) := by decide +kernel
theorem dX7_habit_64 : decode cX7_habit 64 = .ok (.iconst 0, 1) := by decide +kernel
theorem dX7_habit_65 : decode cX7_habit 65 = .ok (.putfield 162, 3) := by decide +kernel
theorem dX7_habit_68 : decode cX7_habit 68 = .ok (.aload_n 0, 1) := by decide +kernel
theorem dX7_habit_69 : decode cX7_habit 69 = .ok (.getfield 252, 3) := by decide +kernel
theorem dX7_habit_72 : decode cX7_habit 72 = .ok (.ireturn, 1) := by decide +kernel
def lX7_habit_24 (a0 : Nat) (a1 : Int32) (σ4 : St) (x5 : Int32) : Option ((St × Int32) ⊕ (St)) :=
  if 72 ≤ x5 then
    some (.inr σ4)
  else
  o_gR σ4 a0 5 29 fun r6 =>
  o_gR σ4 a0 5 27 fun r7 =>
  o_aI σ4 r7 0 x5 fun x8 =>
  o_sI σ4 r6 0 ((72 * a1) + x5) x8 fun σ9 =>
  some (.inl (σ9, x5 + 1))

def fX7_habit (σ : St) (a0 : Nat) (a1 : Int32) : Option (Int32 × St) :=
  o_k σ a0 5 <|
  (fX7_isHut σ a0 a1).bind fun x1 =>
  if x1 = 0 then
    some ((-2), σ)
  else
  o_k σ a0 5 <|
  (fX7_isRead σ a0 0).bind <| un2 fun x2 σ3 =>
  if x2 = 0 then
    some ((-4), σ3)
  else
  (loopF fuel (fun z => lX7_habit_24 a0 a1 z.1 z.2) (σ3, 0)).bind <| fun σ10 =>
  o_gR σ10 a0 5 28 fun r11 =>
  o_gI σ10 a0 5 26 fun x12 =>
  o_sI σ10 r11 0 a1 x12 fun σ13 =>
  o_pI σ13 a0 5 18 0 fun σ14 =>
  o_gI σ14 a0 5 26 fun x15 =>
  some (x15, σ14)

set_option maxHeartbeats 4000000 in
theorem wX7_habit {l : Launch} {s0 : State} {A0 : Array Value} {D : va_G} {ac : Nat → ClassId} (G : Gl s0 A0 D ac) {σ : St} {a0 : Nat} {a1 : Int32} {v : Int32} {σ' : St} (hf : fX7_habit σ a0 a1 = some (v, σ')) : Met l yX7_habit (ws_ yX7_habit cX7_habit 3 (some (.int))) ({ frames := 6, cells := 0, slots := 0, locals := 130 } : Room) (Pn s0 D ac [.ref a0, .int a1] σ) (Qn s0 D ac (some (.int v)) σ') 0 0 (fr s0) := by
  refine x_met (by decide) (Nat.le_of_ble_eq_true rfl) ?_
  intro p e s m args below meth c ls C hnm h hl
  have C : Cx s0 p s m args meth c cX7_habit 3 "HutForShowModel" (some (.int)) := C
  have hx := C.1
  have hb := C.2.1
  have hl : lv_has ls 3 [(0, .ref a0), (1, .int a1)] := hl
  unfold fX7_habit at hf
  refine lv_aload_n hx hb dX7_habit_0 rfl (lv_at hl 0 rfl) ?_
  refine lv_iload_n hx hb dX7_habit_1 rfl (lv_at hl 1 rfl) ?_
  obtain ⟨hk, hf⟩ := k_of hf
  obtain ⟨x1, hc, hf⟩ := hf_b hf
  refine x_cV (q := (RX7, TX7, 50)) (rest := []) (As := [.int a1]) (n := 1) (ov := (some (.int x1))) G C h (wX7_isHut G hc) hk rfl (lw_V q1218 q1220 qs22 q61 q1221) (by decide +kernel) ⟨Nat.le_of_ble_eq_true rfl, Nat.le_of_ble_eq_true rfl⟩ rfl rfl rfl hl.1 rfl (Nat.le_of_ble_eq_true rfl) dX7_habit_2 ⟨(Nat.le_of_ble_eq_true rfl), (Nat.le_of_ble_eq_true rfl)⟩ (fun H locs h => ?_)
  refine lv_if_ne (tgt := 11) hx hb dX7_habit_5 (by decide) (fun hc => ?_) (fun hc => ?_)
  · have hf := hf_f hc hf
    refine lv_aload_n hx hb dX7_habit_11 rfl (lv_at hl 0 rfl) ?_
    refine lv_iconst (v := 0) hx hb dX7_habit_12 (by decide) ?_
    obtain ⟨hk, hf⟩ := k_of hf
    obtain ⟨⟨x2, σ3⟩, hc, hf⟩ := hf_b hf
    have hf := hf_u2 hf
    refine x_cV (q := (RX7, TX7, 50)) (rest := []) (As := [.int 0]) (n := 1) (ov := (some (.int x2))) G C h (wX7_isRead G hc) hk rfl (lw_V q1290 q1292 qs31 q61 q1293) (by decide +kernel) ⟨Nat.le_of_ble_eq_true rfl, Nat.le_of_ble_eq_true rfl⟩ rfl rfl rfl hl.1 rfl (Nat.le_of_ble_eq_true rfl) dX7_habit_13 ⟨(Nat.le_of_ble_eq_true rfl), (Nat.le_of_ble_eq_true rfl)⟩ (fun H locs h => ?_)
    refine lv_if_ne (tgt := 22) hx hb dX7_habit_16 (by decide) (fun hc => ?_) (fun hc => ?_)
    · have hf := hf_f hc hf
      refine lv_iconst (v := 0) hx hb dX7_habit_22 (by decide) ?_
      refine lv_istore_n (lv' := [(2, .int 0), (0, .ref a0), (1, .int a1)]) hx hb dX7_habit_23 rfl hl (by decide) rfl (fun ls hl => ?_)
      obtain ⟨e24, hL, hK⟩ := hf_b hf
      have hE24_0 : ∀ (σ10 : St), σ10 = e24 → ∀  (H : Heap) (locs : List Loc) (ls : Array Slot), Hs s0 D ac σ10 H locs → lv_has ls 3 [(0, .ref a0), (1, .int a1)] → W p l e ({ frames := 6, cells := 0, slots := 0, locals := 130 } : Room) s m args below meth c H locs 0 0 (MQ below (Qn s0 D ac (some (.int v)) σ') args s 0 0 (fr s0)) (F0 m 53 ls []) := by
        intro σ10 he H locs ls h hl
        subst he
        have hf := hK
        refine lv_aload_n hx hb dX7_habit_53 rfl (lv_at hl 0 rfl) ?_
        refine x_gR (q := (RX7, TX7, 50)) (j := 28) G C h rfl (by decide) (fun _ _ _ => rfl) (lk C q1084) (fun _ z => z) dX7_habit_54 hf (fun r11 hf => ?_)
        refine lv_iload_n hx hb dX7_habit_57 rfl (lv_at hl 1 rfl) ?_
        refine lv_aload_n hx hb dX7_habit_58 rfl (lv_at hl 0 rfl) ?_
        refine x_gI (q := (RX7, TX7, 50)) (j := 26) G C h rfl (by decide) (fun _ _ _ => rfl) (lk C q1082) (fun _ z => z) dX7_habit_59 hf (fun x12 hf => ?_)
        refine x_iast G C h dX7_habit_62 hf (fun σ13 H locs h hf => ?_)
        refine lv_aload_n hx hb dX7_habit_63 rfl (lv_at hl 0 rfl) ?_
        refine lv_iconst (v := 0) hx hb dX7_habit_64 (by decide) ?_
        refine x_pI (q := (RX7, TX7, 50)) (j := 18) G C h rfl (by decide) rfl (lk C q1074) (fun _ z => z) (Or.inl rfl) dX7_habit_65 hf (fun σ14 H locs h hf => ?_)
        refine lv_aload_n hx hb dX7_habit_68 rfl (lv_at hl 0 rfl) ?_
        refine x_gI (q := (RX7, TX7, 50)) (j := 26) G C h rfl (by decide) (fun _ _ _ => rfl) (lk C q1082) (fun _ z => z) dX7_habit_69 hf (fun x15 hf => ?_)
        cases hf
        refine W.widen (k := 0) (n := 0) (Nat.le_of_ble_eq_true rfl) (Nat.le_of_ble_eq_true rfl) ?_
        exact x_iret C h dX7_habit_72
      refine loopF_ind (P := fun z => ∀ (H : Heap) (locs : List Loc) (ls : Array Slot), Hs s0 D ac (z.1) H locs → lv_has ls 3 [(0, .ref a0), (1, .int a1), (2, .int z.2)] → W p l e ({ frames := 6, cells := 0, slots := 0, locals := 130 } : Room) s m args below meth c H locs 0 0 (MQ below (Qn s0 D ac (some (.int v)) σ') args s 0 0 (fr s0)) (F0 m 24 ls [])) ?_ _ _ hL _ _ _ h (lv_sub hl [1, 2, 0] rfl)
      clear hK hL h hl hf
      intro z o hf ih hX H locs ls h hl
      obtain ⟨σ4, x5⟩ := z
      have h : Hs s0 D ac σ4 H locs := h
      have hl : lv_has ls 3 [(0, .ref a0), (1, .int a1), (2, .int x5)] := hl
      have hf : lX7_habit_24 a0 a1 σ4 x5 = some o := hf
      unfold lX7_habit_24 at hf
      refine lv_iload_n hx hb dX7_habit_24 rfl (lv_at hl 2 rfl) ?_
      refine lv_bipush (v := 72) hx hb dX7_habit_25 (by decide) ?_
      refine lv_icmp_ge (tgt := 53) hx hb dX7_habit_27 (by decide) (fun hc => ?_) (fun hc => ?_)
      · have hf := hf_t hc hf
        cases hf
        exact hE24_0 _ (hX _ rfl) _ _ _ h (lv_sub hl [0, 1] rfl)
      · have hf := hf_f hc hf
        refine lv_aload_n hx hb dX7_habit_30 rfl (lv_at hl 0 rfl) ?_
        refine x_gR (q := (RX7, TX7, 50)) (j := 29) G C h rfl (by decide) (fun _ _ _ => rfl) (lk C q1085) (fun _ z => z) dX7_habit_31 hf (fun r6 hf => ?_)
        refine lv_bipush (v := 72) hx hb dX7_habit_34 (by decide) ?_
        refine lv_iload_n hx hb dX7_habit_36 rfl (lv_at hl 1 rfl) ?_
        refine lv_imul hx hb dX7_habit_37 ?_
        refine lv_iload_n hx hb dX7_habit_38 rfl (lv_at hl 2 rfl) ?_
        refine lv_iadd hx hb dX7_habit_39 ?_
        refine lv_aload_n hx hb dX7_habit_40 rfl (lv_at hl 0 rfl) ?_
        refine x_gR (q := (RX7, TX7, 50)) (j := 27) G C h rfl (by decide) (fun _ _ _ => rfl) (lk C q1083) (fun _ z => z) dX7_habit_41 hf (fun r7 hf => ?_)
        refine lv_iload_n hx hb dX7_habit_44 rfl (lv_at hl 2 rfl) ?_
        refine x_iald G C h dX7_habit_45 hf (fun x8 hf => ?_)
        refine x_iast G C h dX7_habit_46 hf (fun σ9 H locs h hf => ?_)
        refine lv_iinc (v := x5 + 1) (lv' := [(2, .int (x5 + 1)), (0, .ref a0), (1, .int a1)]) hx hb dX7_habit_47 hl (k := 2) rfl rfl (by decide) rfl (fun ls hl => ?_)
        refine lv_goto (tgt := 24) hx hb dX7_habit_50 (by decide) ?_
        cases hf
        exact ih _ rfl _ _ _ h (lv_sub hl [1, 2, 0] rfl)
    · have hf := hf_t hc hf
      refine lv_bipush (v := (-4)) hx hb dX7_habit_19 (by decide) ?_
      cases hf
      refine W.widen (k := 0) (n := 0) (Nat.le_of_ble_eq_true rfl) (Nat.le_of_ble_eq_true rfl) ?_
      exact x_iret C h dX7_habit_21
  · have hf := hf_t hc hf
    refine lv_bipush (v := (-2)) hx hb dX7_habit_8 (by decide) ?_
    cases hf
    refine W.widen (k := 0) (n := 0) (Nat.le_of_ble_eq_true rfl) (Nat.le_of_ble_eq_true rfl) ?_
    exact x_iret C h dX7_habit_10

theorem dX7_isVisitor_0 : decode cX7_isVisitor 0 = .ok (.iload_n 0, 1) := by decide +kernel
theorem dX7_isVisitor_1 : decode cX7_isVisitor 1 = .ok (.iconst 0, 1) := by decide +kernel
theorem dX7_isVisitor_2 : decode cX7_isVisitor 2 = .ok (.iconst 3, 1) := by decide +kernel
theorem dX7_isVisitor_3 : decode cX7_isVisitor 3 = .ok (.invokestatic 113, 3) := by decide +kernel
theorem dX7_isVisitor_6 : decode cX7_isVisitor 6 = .ok (.ireturn, 1) := by decide +kernel
def fX7_isVisitor (σ : St) (a0 : Int32) : Option (Int32) :=
  (fX7_in σ a0 0 3).bind fun x1 =>
  o_bz x1 <| some x1

set_option maxHeartbeats 4000000 in
theorem wX7_isVisitor {l : Launch} {s0 : State} {A0 : Array Value} {D : va_G} {ac : Nat → ClassId} (G : Gl s0 A0 D ac) {σ : St} {a0 : Int32} {v : Int32} (hf : fX7_isVisitor σ a0 = some (v)) : Met l yX7_isVisitor (ws_ yX7_isVisitor cX7_isVisitor 1 (some (.boolean))) ({ frames := 1, cells := 0, slots := 0, locals := 22 } : Room) (Pn s0 D ac [.int a0] σ) (Qn s0 D ac (some (.int v)) σ) 0 0 (fr s0) := by
  refine x_met (by decide) (Nat.le_of_ble_eq_true rfl) ?_
  intro p e s m args below meth c ls C hnm h hl
  have C : Cx s0 p s m args meth c cX7_isVisitor 1 "HutForShowModel" (some (.boolean)) := C
  have hx := C.1
  have hb := C.2.1
  have hl : lv_has ls 1 [(0, .int a0)] := hl
  unfold fX7_isVisitor at hf
  refine lv_iload_n hx hb dX7_isVisitor_0 rfl (lv_at hl 0 rfl) ?_
  refine lv_iconst (v := 0) hx hb dX7_isVisitor_1 (by decide) ?_
  refine lv_iconst (v := 3) hx hb dX7_isVisitor_2 (by decide) ?_
  obtain ⟨x1, hc, hf⟩ := hf_b hf
  refine x_cS (rest := []) (As := [.int a0, .int 0, .int 3]) (n := 3) (ov := (some (.int x1))) C h (wX7_in G hc) (lw_S q1211 q1212 q61 q1213) (by decide +kernel) ⟨Nat.le_of_ble_eq_true rfl, Nat.le_of_ble_eq_true rfl⟩ rfl rfl rfl hl.1 rfl (Nat.le_of_ble_eq_true rfl) dX7_isVisitor_3 ⟨(Nat.le_of_ble_eq_true rfl), (Nat.le_of_ble_eq_true rfl)⟩ (fun H locs h => ?_)
  obtain ⟨hz, hf⟩ := bz_of hf
  cases hf
  refine W.widen (k := 0) (n := 0) (Nat.le_of_ble_eq_true rfl) (Nat.le_of_ble_eq_true rfl) ?_
  exact x_zret C h hz dX7_isVisitor_6

theorem dX7_taste_0 : decode cX7_taste 0 = .ok (.iload_n 1, 1) := by decide +kernel
theorem dX7_taste_1 : decode cX7_taste 1 = .ok (.invokestatic 264, 3) := by decide +kernel
theorem dX7_taste_4 : decode cX7_taste 4 = .ok (.ifCond .ne 6, 3) := by decide +kernel
theorem dX7_taste_7 : decode cX7_taste 7 = .ok (.bipush (-2), 2) := by decide +kernel
theorem dX7_taste_9 : decode cX7_taste 9 = .ok (.ireturn, 1) := by decide +kernel
theorem dX7_taste_10 : decode cX7_taste 10 = .ok (.aload_n 0, 1) := by decide +kernel
theorem dX7_taste_11 : decode cX7_taste 11 = .ok (.iconst 1, 1) := by decide +kernel
theorem dX7_taste_12 : decode cX7_taste 12 = .ok (.invokevirtual 261, 3) := by decide +kernel
theorem dX7_taste_15 : decode cX7_taste 15 = .ok (.ifCond .ne 6, 3) := by decide +kernel
theorem dX7_taste_18 : decode cX7_taste 18 = .ok (.bipush (-4), 2) := by decide +kernel
theorem dX7_taste_20 : decode cX7_taste 20 = .ok (.ireturn, 1) := by decide +kernel
theorem dX7_taste_21 : decode cX7_taste 21 = .ok (.iconst 0, 1) := by decide +kernel
theorem dX7_taste_22 : decode cX7_taste 22 = .ok (.istore_n 2, 1) := by decide +kernel
theorem dX7_taste_23 : decode cX7_taste 23 = .ok (.iload_n 2, 1) := by decide +kernel
theorem dX7_taste_24 : decode cX7_taste 24 = .ok (.bipush 24, 2) := by decide +kernel
theorem dX7_taste_26 : decode cX7_taste 26 = .ok (.if_icmp .ge 26, 3) := by decide +kernel
theorem dX7_taste_29 : decode cX7_taste 29 = .ok (.aload_n 0, 1) := by decide +kernel
theorem dX7_taste_30 : decode cX7_taste 30 = .ok (.getfield 68, 3) := by decide +kernel
theorem dX7_taste_33 : decode cX7_taste 33 = .ok (.bipush 24, 2) := by decide +kernel
theorem dX7_taste_35 : decode cX7_taste 35 = .ok (.iload_n 1, 1) := by decide +kernel
theorem dX7_taste_36 : decode cX7_taste 36 = .ok (.imul, 1) := by decide +kernel
theorem dX7_taste_37 : decode cX7_taste 37 = .ok (.iload_n 2, 1) := by decide +kernel
theorem dX7_taste_38 : decode cX7_taste 38 = .ok (.iadd, 1) := by decide +kernel
theorem dX7_taste_39 : decode cX7_taste 39 = .ok (.aload_n 0, 1) := by decide +kernel
theorem dX7_taste_40 : decode cX7_taste 40 = .ok (.getfield 56, 3) := by decide +kernel
theorem dX7_taste_43 : decode cX7_taste 43 = .ok (.iload_n 2, 1) := by decide +kernel
theorem dX7_taste_44 : decode cX7_taste 44 = .ok (.iaload, 1) := by decide +kernel
theorem dX7_taste_45 : decode cX7_taste 45 = .ok (.iastore, 1) := by decide +kernel
theorem dX7_taste_46 : decode cX7_taste 46 = .ok (.iinc 2 1, 3) := by decide +kernel
theorem dX7_taste_49 : decode cX7_taste 49 = .ok (.goto (-26), 3) := by decide +kernel
theorem dX7_taste_52 : decode cX7_taste 52 = .ok (.aload_n 0, 1) := by decide +kernel
theorem dX7_taste_53 : decode cX7_taste 53 = .ok (.getfield 65, 3) := by decide +kernel
theorem dX7_taste_56 : decode cX7_taste 56 = .ok (.iload_n 1, 1) := by decide +kernel
theorem dX7_taste_57 : decode cX7_taste 57 = .ok (.aload_n 0, 1) := by decide +kernel
theorem dX7_taste_58 : decode cX7_taste 58 = .ok (.getfield 252, 3) := by decide +kernel
theorem dX7_taste_61 : decode cX7_taste 61 = .ok (.iastore, 1) := by decide +kernel
theorem dX7_taste_62 : decode cX7_taste 62 = .ok (.aload_n 0, 1) := by decide +kernel
theorem dX7_taste_63 : decode cX7_taste 63 = .ok (.iconst 0, 1) := by decide +kernel
theorem dX7_taste_64 : decode cX7_taste 64 = .ok (.putfield 162, 3) := by decide +kernel
theorem dX7_taste_67 : decode cX7_taste 67 = .ok (.aload_n 0, 1) := by decide +kernel
theorem dX7_taste_68 : decode cX7_taste 68 = .ok (.getfield 252, 3) := by decide +kernel
theorem dX7_taste_71 : decode cX7_taste 71 = .ok (.ireturn, 1) := by decide +kernel
def lX7_taste_23 (a0 : Nat) (a1 : Int32) (σ4 : St) (x5 : Int32) : Option ((St × Int32) ⊕ (St)) :=
  if 24 ≤ x5 then
    some (.inr σ4)
  else
  o_gR σ4 a0 5 31 fun r6 =>
  o_gR σ4 a0 5 27 fun r7 =>
  o_aI σ4 r7 0 x5 fun x8 =>
  o_sI σ4 r6 0 ((24 * a1) + x5) x8 fun σ9 =>
  some (.inl (σ9, x5 + 1))

def fX7_taste (σ : St) (a0 : Nat) (a1 : Int32) : Option (Int32 × St) :=
  (fX7_isVisitor σ a1).bind fun x1 =>
  if x1 = 0 then
    some ((-2), σ)
  else
  o_k σ a0 5 <|
  (fX7_isRead σ a0 1).bind <| un2 fun x2 σ3 =>
  if x2 = 0 then
    some ((-4), σ3)
  else
  (loopF fuel (fun z => lX7_taste_23 a0 a1 z.1 z.2) (σ3, 0)).bind <| fun σ10 =>
  o_gR σ10 a0 5 30 fun r11 =>
  o_gI σ10 a0 5 26 fun x12 =>
  o_sI σ10 r11 0 a1 x12 fun σ13 =>
  o_pI σ13 a0 5 18 0 fun σ14 =>
  o_gI σ14 a0 5 26 fun x15 =>
  some (x15, σ14)

set_option maxHeartbeats 4000000 in
theorem wX7_taste {l : Launch} {s0 : State} {A0 : Array Value} {D : va_G} {ac : Nat → ClassId} (G : Gl s0 A0 D ac) {σ : St} {a0 : Nat} {a1 : Int32} {v : Int32} {σ' : St} (hf : fX7_taste σ a0 a1 = some (v, σ')) : Met l yX7_taste (ws_ yX7_taste cX7_taste 3 (some (.int))) ({ frames := 6, cells := 0, slots := 0, locals := 130 } : Room) (Pn s0 D ac [.ref a0, .int a1] σ) (Qn s0 D ac (some (.int v)) σ') 0 0 (fr s0) := by
  refine x_met (by decide) (Nat.le_of_ble_eq_true rfl) ?_
  intro p e s m args below meth c ls C hnm h hl
  have C : Cx s0 p s m args meth c cX7_taste 3 "HutForShowModel" (some (.int)) := C
  have hx := C.1
  have hb := C.2.1
  have hl : lv_has ls 3 [(0, .ref a0), (1, .int a1)] := hl
  unfold fX7_taste at hf
  refine lv_iload_n hx hb dX7_taste_0 rfl (lv_at hl 1 rfl) ?_
  obtain ⟨x1, hc, hf⟩ := hf_b hf
  refine x_cS (rest := []) (As := [.int a1]) (n := 1) (ov := (some (.int x1))) C h (wX7_isVisitor G hc) (lw_S q1352 q1353 q61 q1354) (by decide +kernel) ⟨Nat.le_of_ble_eq_true rfl, Nat.le_of_ble_eq_true rfl⟩ rfl rfl rfl hl.1 rfl (Nat.le_of_ble_eq_true rfl) dX7_taste_1 ⟨(Nat.le_of_ble_eq_true rfl), (Nat.le_of_ble_eq_true rfl)⟩ (fun H locs h => ?_)
  refine lv_if_ne (tgt := 10) hx hb dX7_taste_4 (by decide) (fun hc => ?_) (fun hc => ?_)
  · have hf := hf_f hc hf
    refine lv_aload_n hx hb dX7_taste_10 rfl (lv_at hl 0 rfl) ?_
    refine lv_iconst (v := 1) hx hb dX7_taste_11 (by decide) ?_
    obtain ⟨hk, hf⟩ := k_of hf
    obtain ⟨⟨x2, σ3⟩, hc, hf⟩ := hf_b hf
    have hf := hf_u2 hf
    refine x_cV (q := (RX7, TX7, 50)) (rest := []) (As := [.int 1]) (n := 1) (ov := (some (.int x2))) G C h (wX7_isRead G hc) hk rfl (lw_V q1290 q1292 qs31 q61 q1293) (by decide +kernel) ⟨Nat.le_of_ble_eq_true rfl, Nat.le_of_ble_eq_true rfl⟩ rfl rfl rfl hl.1 rfl (Nat.le_of_ble_eq_true rfl) dX7_taste_12 ⟨(Nat.le_of_ble_eq_true rfl), (Nat.le_of_ble_eq_true rfl)⟩ (fun H locs h => ?_)
    refine lv_if_ne (tgt := 21) hx hb dX7_taste_15 (by decide) (fun hc => ?_) (fun hc => ?_)
    · have hf := hf_f hc hf
      refine lv_iconst (v := 0) hx hb dX7_taste_21 (by decide) ?_
      refine lv_istore_n (lv' := [(2, .int 0), (0, .ref a0), (1, .int a1)]) hx hb dX7_taste_22 rfl hl (by decide) rfl (fun ls hl => ?_)
      obtain ⟨e23, hL, hK⟩ := hf_b hf
      have hE23_0 : ∀ (σ10 : St), σ10 = e23 → ∀  (H : Heap) (locs : List Loc) (ls : Array Slot), Hs s0 D ac σ10 H locs → lv_has ls 3 [(0, .ref a0), (1, .int a1)] → W p l e ({ frames := 6, cells := 0, slots := 0, locals := 130 } : Room) s m args below meth c H locs 0 0 (MQ below (Qn s0 D ac (some (.int v)) σ') args s 0 0 (fr s0)) (F0 m 52 ls []) := by
        intro σ10 he H locs ls h hl
        subst he
        have hf := hK
        refine lv_aload_n hx hb dX7_taste_52 rfl (lv_at hl 0 rfl) ?_
        refine x_gR (q := (RX7, TX7, 50)) (j := 30) G C h rfl (by decide) (fun _ _ _ => rfl) (lk C q1086) (fun _ z => z) dX7_taste_53 hf (fun r11 hf => ?_)
        refine lv_iload_n hx hb dX7_taste_56 rfl (lv_at hl 1 rfl) ?_
        refine lv_aload_n hx hb dX7_taste_57 rfl (lv_at hl 0 rfl) ?_
        refine x_gI (q := (RX7, TX7, 50)) (j := 26) G C h rfl (by decide) (fun _ _ _ => rfl) (lk C q1082) (fun _ z => z) dX7_taste_58 hf (fun x12 hf => ?_)
        refine x_iast G C h dX7_taste_61 hf (fun σ13 H locs h hf => ?_)
        refine lv_aload_n hx hb dX7_taste_62 rfl (lv_at hl 0 rfl) ?_
        refine lv_iconst (v := 0) hx hb dX7_taste_63 (by decide) ?_
        refine x_pI (q := (RX7, TX7, 50)) (j := 18) G C h rfl (by decide) rfl (lk C q1074) (fun _ z => z) (Or.inl rfl) dX7_taste_64 hf (fun σ14 H locs h hf => ?_)
        refine lv_aload_n hx hb dX7_taste_67 rfl (lv_at hl 0 rfl) ?_
        refine x_gI (q := (RX7, TX7, 50)) (j := 26) G C h rfl (by decide) (fun _ _ _ => rfl) (lk C q1082) (fun _ z => z) dX7_taste_68 hf (fun x15 hf => ?_)
        cases hf
        refine W.widen (k := 0) (n := 0) (Nat.le_of_ble_eq_true rfl) (Nat.le_of_ble_eq_true rfl) ?_
        exact x_iret C h dX7_taste_71
      refine loopF_ind (P := fun z => ∀ (H : Heap) (locs : List Loc) (ls : Array Slot), Hs s0 D ac (z.1) H locs → lv_has ls 3 [(0, .ref a0), (1, .int a1), (2, .int z.2)] → W p l e ({ frames := 6, cells := 0, slots := 0, locals := 130 } : Room) s m args below meth c H locs 0 0 (MQ below (Qn s0 D ac (some (.int v)) σ') args s 0 0 (fr s0)) (F0 m 23 ls [])) ?_ _ _ hL _ _ _ h (lv_sub hl [1, 2, 0] rfl)
      clear hK hL h hl hf
      intro z o hf ih hX H locs ls h hl
      obtain ⟨σ4, x5⟩ := z
      have h : Hs s0 D ac σ4 H locs := h
      have hl : lv_has ls 3 [(0, .ref a0), (1, .int a1), (2, .int x5)] := hl
      have hf : lX7_taste_23 a0 a1 σ4 x5 = some o := hf
      unfold lX7_taste_23 at hf
      refine lv_iload_n hx hb dX7_taste_23 rfl (lv_at hl 2 rfl) ?_
      refine lv_bipush (v := 24) hx hb dX7_taste_24 (by decide) ?_
      refine lv_icmp_ge (tgt := 52) hx hb dX7_taste_26 (by decide) (fun hc => ?_) (fun hc => ?_)
      · have hf := hf_t hc hf
        cases hf
        exact hE23_0 _ (hX _ rfl) _ _ _ h (lv_sub hl [0, 1] rfl)
      · have hf := hf_f hc hf
        refine lv_aload_n hx hb dX7_taste_29 rfl (lv_at hl 0 rfl) ?_
        refine x_gR (q := (RX7, TX7, 50)) (j := 31) G C h rfl (by decide) (fun _ _ _ => rfl) (lk C q1087) (fun _ z => z) dX7_taste_30 hf (fun r6 hf => ?_)
        refine lv_bipush (v := 24) hx hb dX7_taste_33 (by decide) ?_
        refine lv_iload_n hx hb dX7_taste_35 rfl (lv_at hl 1 rfl) ?_
        refine lv_imul hx hb dX7_taste_36 ?_
        refine lv_iload_n hx hb dX7_taste_37 rfl (lv_at hl 2 rfl) ?_
        refine lv_iadd hx hb dX7_taste_38 ?_
        refine lv_aload_n hx hb dX7_taste_39 rfl (lv_at hl 0 rfl) ?_
        refine x_gR (q := (RX7, TX7, 50)) (j := 27) G C h rfl (by decide) (fun _ _ _ => rfl) (lk C q1083) (fun _ z => z) dX7_taste_40 hf (fun r7 hf => ?_)
        refine lv_iload_n hx hb dX7_taste_43 rfl (lv_at hl 2 rfl) ?_
        refine x_iald G C h dX7_taste_44 hf (fun x8 hf => ?_)
        refine x_iast G C h dX7_taste_45 hf (fun σ9 H locs h hf => ?_)
        refine lv_iinc (v := x5 + 1) (lv' := [(2, .int (x5 + 1)), (0, .ref a0), (1, .int a1)]) hx hb dX7_taste_46 hl (k := 2) rfl rfl (by decide) rfl (fun ls hl => ?_)
        refine lv_goto (tgt := 23) hx hb dX7_taste_49 (by decide) ?_
        cases hf
        exact ih _ rfl _ _ _ h (lv_sub hl [1, 2, 0] rfl)
    · have hf := hf_t hc hf
      refine lv_bipush (v := (-4)) hx hb dX7_taste_18 (by decide) ?_
      cases hf
      refine W.widen (k := 0) (n := 0) (Nat.le_of_ble_eq_true rfl) (Nat.le_of_ble_eq_true rfl) ?_
      exact x_iret C h dX7_taste_20
  · have hf := hf_t hc hf
    refine lv_bipush (v := (-2)) hx hb dX7_taste_7 (by decide) ?_
    cases hf
    refine W.widen (k := 0) (n := 0) (Nat.le_of_ble_eq_true rfl) (Nat.le_of_ble_eq_true rfl) ?_
    exact x_iret C h dX7_taste_9

theorem dX7_act_0 : decode cX7_act 0 = .ok (.aload_n 0, 1) := by decide +kernel
theorem dX7_act_1 : decode cX7_act 1 = .ok (.iload_n 1, 1) := by decide +kernel
theorem dX7_act_2 : decode cX7_act 2 = .ok (.invokevirtual 121, 3) := by decide +kernel
theorem dX7_act_5 : decode cX7_act 5 = .ok (.ifCond .eq 15, 3) := by decide +kernel
theorem dX7_act_8 : decode cX7_act 8 = .ok (.aload_n 0, 1) := by decide +kernel
theorem dX7_act_9 : decode cX7_act 9 = .ok (.iload_n 1, 1) := by decide +kernel
theorem dX7_act_10 : decode cX7_act 10 = .ok (.aload_n 0, 1) := by decide +kernel
theorem dX7_act_11 : decode cX7_act 11 = .ok (.getfield 155, 3) := by decide +kernel
theorem dX7_act_14 : decode cX7_act 14 = .ok (.invokevirtual 148, 3) := by decide +kernel
theorem dX7_act_17 : decode cX7_act 17 = .ok (.goto 5, 3) := by decide +kernel
theorem dX7_act_20 : decode cX7_act 20 = .ok (.bipush (-2), 2) := by decide +kernel
theorem dX7_act_22 : decode cX7_act 22 = .ok (.ireturn, 1) := by decide +kernel
def fX7_act (σ : St) (a0 : Nat) (a1 : Int32) : Option (Int32) :=
  o_k σ a0 5 <|
  (fX7_isHut σ a0 a1).bind fun x1 =>
  if x1 = 0 then
    some ((-2))
  else
  o_gI σ a0 5 0 fun x2 =>
  o_k σ a0 5 <|
  (fX7_actOf σ a0 a1 x2).bind fun x3 =>
  some x3

set_option maxHeartbeats 4000000 in
theorem wX7_act {l : Launch} {s0 : State} {A0 : Array Value} {D : va_G} {ac : Nat → ClassId} (G : Gl s0 A0 D ac) {σ : St} {a0 : Nat} {a1 : Int32} {v : Int32} (hf : fX7_act σ a0 a1 = some (v)) : Met l yX7_act (ws_ yX7_act cX7_act 2 (some (.int))) ({ frames := 4, cells := 0, slots := 0, locals := 98 } : Room) (Pn s0 D ac [.ref a0, .int a1] σ) (Qn s0 D ac (some (.int v)) σ) 0 0 (fr s0) := by
  refine x_met (by decide) (Nat.le_of_ble_eq_true rfl) ?_
  intro p e s m args below meth c ls C hnm h hl
  have C : Cx s0 p s m args meth c cX7_act 2 "HutForShowModel" (some (.int)) := C
  have hx := C.1
  have hb := C.2.1
  have hl : lv_has ls 2 [(0, .ref a0), (1, .int a1)] := hl
  unfold fX7_act at hf
  refine lv_aload_n hx hb dX7_act_0 rfl (lv_at hl 0 rfl) ?_
  refine lv_iload_n hx hb dX7_act_1 rfl (lv_at hl 1 rfl) ?_
  obtain ⟨hk, hf⟩ := k_of hf
  obtain ⟨x1, hc, hf⟩ := hf_b hf
  refine x_cV (q := (RX7, TX7, 50)) (rest := []) (As := [.int a1]) (n := 1) (ov := (some (.int x1))) G C h (wX7_isHut G hc) hk rfl (lw_V q1218 q1220 qs22 q61 q1221) (by decide +kernel) ⟨Nat.le_of_ble_eq_true rfl, Nat.le_of_ble_eq_true rfl⟩ rfl rfl rfl hl.1 rfl (Nat.le_of_ble_eq_true rfl) dX7_act_2 ⟨(Nat.le_of_ble_eq_true rfl), (Nat.le_of_ble_eq_true rfl)⟩ (fun H locs h => ?_)
  refine lv_if_eq (tgt := 20) hx hb dX7_act_5 (by decide) (fun hc => ?_) (fun hc => ?_)
  · have hf := hf_t hc hf
    refine lv_bipush (v := (-2)) hx hb dX7_act_20 (by decide) ?_
    cases hf
    refine W.widen (k := 0) (n := 0) (Nat.le_of_ble_eq_true rfl) (Nat.le_of_ble_eq_true rfl) ?_
    exact x_iret C h dX7_act_22
  · have hf := hf_f hc hf
    refine lv_aload_n hx hb dX7_act_8 rfl (lv_at hl 0 rfl) ?_
    refine lv_iload_n hx hb dX7_act_9 rfl (lv_at hl 1 rfl) ?_
    refine lv_aload_n hx hb dX7_act_10 rfl (lv_at hl 0 rfl) ?_
    refine x_gI (q := (RX7, TX7, 50)) (j := 0) G C h rfl (by decide) (fun _ _ _ => rfl) (lk C q1056) (fun _ z => z) dX7_act_11 hf (fun x2 hf => ?_)
    obtain ⟨hk, hf⟩ := k_of hf
    obtain ⟨x3, hc, hf⟩ := hf_b hf
    refine x_cV (q := (RX7, TX7, 50)) (rest := []) (As := [.int a1, .int x2]) (n := 2) (ov := (some (.int x3))) G C h (wX7_actOf G hc) hk rfl (lw_V q1261 q1263 qs27 q61 q1264) (by decide +kernel) ⟨Nat.le_of_ble_eq_true rfl, Nat.le_of_ble_eq_true rfl⟩ rfl rfl rfl hl.1 rfl (Nat.le_of_ble_eq_true rfl) dX7_act_14 ⟨(Nat.le_of_ble_eq_true rfl), (Nat.le_of_ble_eq_true rfl)⟩ (fun H locs h => ?_)
    refine lv_goto (tgt := 22) hx hb dX7_act_17 (by decide) ?_
    cases hf
    refine W.widen (k := 0) (n := 0) (Nat.le_of_ble_eq_true rfl) (Nat.le_of_ble_eq_true rfl) ?_
    exact x_iret C h dX7_act_22

theorem dX7_tasteOf_0 : decode cX7_tasteOf 0 = .ok (.iconst 0, 1) := by decide +kernel
theorem dX7_tasteOf_1 : decode cX7_tasteOf 1 = .ok (.istore 4, 2) := by decide +kernel
theorem dX7_tasteOf_3 : decode cX7_tasteOf 3 = .ok (.iconst 0, 1) := by decide +kernel
theorem dX7_tasteOf_4 : decode cX7_tasteOf 4 = .ok (.istore 5, 2) := by decide +kernel
theorem dX7_tasteOf_6 : decode cX7_tasteOf 6 = .ok (.iload 5, 2) := by decide +kernel
theorem dX7_tasteOf_8 : decode cX7_tasteOf 8 = .ok (.aload_n 0, 1) := by decide +kernel
theorem dX7_tasteOf_9 : decode cX7_tasteOf 9 = .ok (.getfield 65, 3) := by decide +kernel
theorem dX7_tasteOf_12 : decode cX7_tasteOf 12 = .ok (.iload_n 1, 1) := by decide +kernel
theorem dX7_tasteOf_13 : decode cX7_tasteOf 13 = .ok (.iaload, 1) := by decide +kernel
theorem dX7_tasteOf_14 : decode cX7_tasteOf 14 = .ok (.if_icmp .ge 60, 3) := by decide +kernel
theorem dX7_tasteOf_17 : decode cX7_tasteOf 17 = .ok (.bipush 24, 2) := by decide +kernel
theorem dX7_tasteOf_19 : decode cX7_tasteOf 19 = .ok (.iload_n 1, 1) := by decide +kernel
theorem dX7_tasteOf_20 : decode cX7_tasteOf 20 = .ok (.imul, 1) := by decide +kernel
theorem dX7_tasteOf_21 : decode cX7_tasteOf 21 = .ok (.iconst 3, 1) := by decide +kernel
theorem dX7_tasteOf_22 : decode cX7_tasteOf 22 = .ok (.iload 5, 2) := by decide +kernel
theorem dX7_tasteOf_24 : decode cX7_tasteOf 24 = .ok (.imul, 1) := by decide +kernel
theorem dX7_tasteOf_25 : decode cX7_tasteOf 25 = .ok (.iadd, 1) := by decide +kernel
theorem dX7_tasteOf_26 : decode cX7_tasteOf 26 = .ok (.istore 6, 2) := by decide +kernel
theorem dX7_tasteOf_28 : decode cX7_tasteOf 28 = .ok (.aload_n 0, 1) := by decide +kernel
theorem dX7_tasteOf_29 : decode cX7_tasteOf 29 = .ok (.getfield 68, 3) := by decide +kernel
theorem dX7_tasteOf_32 : decode cX7_tasteOf 32 = .ok (.iload 6, 2) := by decide +kernel
theorem dX7_tasteOf_34 : decode cX7_tasteOf 34 = .ok (.iaload, 1) := by decide +kernel
theorem dX7_tasteOf_35 : decode cX7_tasteOf 35 = .ok (.iload_n 2, 1) := by decide +kernel
theorem dX7_tasteOf_36 : decode cX7_tasteOf 36 = .ok (.if_icmp .ne 28, 3) := by decide +kernel
theorem dX7_tasteOf_39 : decode cX7_tasteOf 39 = .ok (.aload_n 0, 1) := by decide +kernel
theorem dX7_tasteOf_40 : decode cX7_tasteOf 40 = .ok (.getfield 68, 3) := by decide +kernel
theorem dX7_tasteOf_43 : decode cX7_tasteOf 43 = .ok (.iload 6, 2) := by decide +kernel
theorem dX7_tasteOf_45 : decode cX7_tasteOf 45 = .ok (.iconst 1, 1) := by decide +kernel
theorem dX7_tasteOf_46 : decode cX7_tasteOf 46 = .ok (.iadd, 1) := by decide +kernel
theorem dX7_tasteOf_47 : decode cX7_tasteOf 47 = .ok (.iaload, 1) := by decide +kernel
theorem dX7_tasteOf_48 : decode cX7_tasteOf 48 = .ok (.iload_n 3, 1) := by decide +kernel
theorem dX7_tasteOf_49 : decode cX7_tasteOf 49 = .ok (.if_icmp .ne 15, 3) := by decide +kernel
theorem dX7_tasteOf_52 : decode cX7_tasteOf 52 = .ok (.aload_n 0, 1) := by decide +kernel
theorem dX7_tasteOf_53 : decode cX7_tasteOf 53 = .ok (.getfield 68, 3) := by decide +kernel
theorem dX7_tasteOf_56 : decode cX7_tasteOf 56 = .ok (.iload 6, 2) := by decide +kernel
theorem dX7_tasteOf_58 : decode cX7_tasteOf 58 = .ok (.iconst 2, 1) := by decide +kernel
theorem dX7_tasteOf_59 : decode cX7_tasteOf 59 = .ok (.iadd, 1) := by decide +kernel
theorem dX7_tasteOf_60 : decode cX7_tasteOf 60 = .ok (.iaload, 1) := by decide +kernel
theorem dX7_tasteOf_61 : decode cX7_tasteOf 61 = .ok (.goto 5, 3) := by decide +kernel
theorem dX7_tasteOf_64 : decode cX7_tasteOf 64 = .ok (.iload 4, 2) := by decide +kernel
theorem dX7_tasteOf_66 : decode cX7_tasteOf 66 = .ok (.istore 4, 2) := by decide +kernel
theorem dX7_tasteOf_68 : decode cX7_tasteOf 68 = .ok (.iinc 5 1, 3) := by decide +kernel
theorem dX7_tasteOf_71 : decode cX7_tasteOf 71 = .ok (.goto (-65), 3) := by decide +kernel
theorem dX7_tasteOf_74 : decode cX7_tasteOf 74 = .ok (.iload 4, 2) := by decide +kernel
theorem dX7_tasteOf_76 : decode cX7_tasteOf 76 = .ok (.ireturn, 1) := by decide +kernel
def lX7_tasteOf_6 (σ : St) (a0 : Nat) (a1 : Int32) (a2 : Int32) (a3 : Int32) (x1 : Int32) (x2 : Int32) : Option ((Int32 × Int32) ⊕ (Int32)) :=
  o_gR σ a0 5 30 fun r3 =>
  o_aI σ r3 0 a1 fun x4 =>
  if x4 ≤ x2 then
    some (.inr x1)
  else
  o_gR σ a0 5 31 fun r5 =>
  o_aI σ r5 0 ((24 * a1) + (3 * x2)) fun x6 =>
  jn (fun (x11 : Int32) =>
    some (.inl (x11, x2 + 1))) fun j66 =>
  jn (fun (_ : Unit) =>
    j66 x1) fun j64 =>
  if x6 = a2 then
    o_gR σ a0 5 31 fun r7 =>
    o_aI σ r7 0 (((24 * a1) + (3 * x2)) + 1) fun x8 =>
    if x8 = a3 then
      o_gR σ a0 5 31 fun r9 =>
      o_aI σ r9 0 (((24 * a1) + (3 * x2)) + 2) fun x10 =>
      j66 x10
    else
    j64 ()
  else
  j64 ()

def fX7_tasteOf (σ : St) (a0 : Nat) (a1 : Int32) (a2 : Int32) (a3 : Int32) : Option (Int32) :=
  (loopF fuel (fun z => lX7_tasteOf_6 σ a0 a1 a2 a3 z.1 z.2) (0, 0)).bind <| fun x12 =>
  some x12

set_option maxHeartbeats 4000000 in
theorem wX7_tasteOf {l : Launch} {s0 : State} {A0 : Array Value} {D : va_G} {ac : Nat → ClassId} (G : Gl s0 A0 D ac) {σ : St} {a0 : Nat} {a1 : Int32} {a2 : Int32} {a3 : Int32} {v : Int32} (hf : fX7_tasteOf σ a0 a1 a2 a3 = some (v)) : Met l yX7_tasteOf (ws_ yX7_tasteOf cX7_tasteOf 7 (some (.int))) ({ frames := 0, cells := 0, slots := 0, locals := 0 } : Room) (Pn s0 D ac [.ref a0, .int a1, .int a2, .int a3] σ) (Qn s0 D ac (some (.int v)) σ) 0 0 (fr s0) := by
  refine x_met (by decide) (Nat.le_of_ble_eq_true rfl) ?_
  intro p e s m args below meth c ls C hnm h hl
  have C : Cx s0 p s m args meth c cX7_tasteOf 7 "HutForShowModel" (some (.int)) := C
  have hx := C.1
  have hb := C.2.1
  have hl : lv_has ls 7 [(0, .ref a0), (1, .int a1), (2, .int a2), (3, .int a3)] := hl
  unfold fX7_tasteOf at hf
  refine lv_iconst (v := 0) hx hb dX7_tasteOf_0 (by decide) ?_
  refine lv_istore (lv' := [(4, .int 0), (0, .ref a0), (1, .int a1), (2, .int a2), (3, .int a3)]) hx hb dX7_tasteOf_1 hl (by decide) rfl (fun ls hl => ?_)
  refine lv_iconst (v := 0) hx hb dX7_tasteOf_3 (by decide) ?_
  refine lv_istore (lv' := [(5, .int 0), (4, .int 0), (0, .ref a0), (1, .int a1), (2, .int a2), (3, .int a3)]) hx hb dX7_tasteOf_4 hl (by decide) rfl (fun ls hl => ?_)
  obtain ⟨e6, hL, hK⟩ := hf_b hf
  have hE6_0 : ∀ (x12 : Int32), x12 = e6 → ∀  (H : Heap) (locs : List Loc) (ls : Array Slot), Hs s0 D ac σ H locs → lv_has ls 7 [(0, .ref a0), (1, .int a1), (2, .int a2), (3, .int a3), (4, .int x12)] → W p l e ({ frames := 0, cells := 0, slots := 0, locals := 0 } : Room) s m args below meth c H locs 0 0 (MQ below (Qn s0 D ac (some (.int v)) σ) args s 0 0 (fr s0)) (F0 m 74 ls []) := by
    intro x12 he H locs ls h hl
    subst he
    have hf := hK
    refine lv_iload hx hb dX7_tasteOf_74 (lv_at hl 4 rfl) ?_
    cases hf
    refine W.widen (k := 0) (n := 0) (Nat.le_of_ble_eq_true rfl) (Nat.le_of_ble_eq_true rfl) ?_
    exact x_iret C h dX7_tasteOf_76
  refine loopF_ind (P := fun z => ∀ (H : Heap) (locs : List Loc) (ls : Array Slot), Hs s0 D ac σ H locs → lv_has ls 7 [(0, .ref a0), (1, .int a1), (2, .int a2), (3, .int a3), (4, .int z.1), (5, .int z.2)] → W p l e ({ frames := 0, cells := 0, slots := 0, locals := 0 } : Room) s m args below meth c H locs 0 0 (MQ below (Qn s0 D ac (some (.int v)) σ) args s 0 0 (fr s0)) (F0 m 6 ls [])) ?_ _ _ hL _ _ _ h (lv_sub hl [2, 3, 4, 5, 1, 0] rfl)
  clear hK hL h hl hf
  intro z o hf ih hX H locs ls h hl
  obtain ⟨x1, x2⟩ := z
  have h : Hs s0 D ac σ H locs := h
  have hl : lv_has ls 7 [(0, .ref a0), (1, .int a1), (2, .int a2), (3, .int a3), (4, .int x1), (5, .int x2)] := hl
  have hf : lX7_tasteOf_6 σ a0 a1 a2 a3 x1 x2 = some o := hf
  unfold lX7_tasteOf_6 at hf
  refine lv_iload hx hb dX7_tasteOf_6 (lv_at hl 5 rfl) ?_
  refine lv_aload_n hx hb dX7_tasteOf_8 rfl (lv_at hl 0 rfl) ?_
  refine x_gR (q := (RX7, TX7, 50)) (j := 30) G C h rfl (by decide) (fun _ _ _ => rfl) (lk C q1086) (fun _ z => z) dX7_tasteOf_9 hf (fun r3 hf => ?_)
  refine lv_iload_n hx hb dX7_tasteOf_12 rfl (lv_at hl 1 rfl) ?_
  refine x_iald G C h dX7_tasteOf_13 hf (fun x4 hf => ?_)
  refine lv_icmp_ge (tgt := 74) hx hb dX7_tasteOf_14 (by decide) (fun hc => ?_) (fun hc => ?_)
  · have hf := hf_t hc hf
    cases hf
    exact hE6_0 _ (hX _ rfl) _ _ _ h (lv_sub hl [0, 1, 2, 3, 4] rfl)
  · have hf := hf_f hc hf
    refine lv_bipush (v := 24) hx hb dX7_tasteOf_17 (by decide) ?_
    refine lv_iload_n hx hb dX7_tasteOf_19 rfl (lv_at hl 1 rfl) ?_
    refine lv_imul hx hb dX7_tasteOf_20 ?_
    refine lv_iconst (v := 3) hx hb dX7_tasteOf_21 (by decide) ?_
    refine lv_iload hx hb dX7_tasteOf_22 (lv_at hl 5 rfl) ?_
    refine lv_imul hx hb dX7_tasteOf_24 ?_
    refine lv_iadd hx hb dX7_tasteOf_25 ?_
    refine lv_istore (lv' := [(6, .int ((24 * a1) + (3 * x2))), (0, .ref a0), (1, .int a1), (2, .int a2), (3, .int a3), (4, .int x1), (5, .int x2)]) hx hb dX7_tasteOf_26 hl (by decide) rfl (fun ls hl => ?_)
    refine lv_aload_n hx hb dX7_tasteOf_28 rfl (lv_at hl 1 rfl) ?_
    refine x_gR (q := (RX7, TX7, 50)) (j := 31) G C h rfl (by decide) (fun _ _ _ => rfl) (lk C q1087) (fun _ z => z) dX7_tasteOf_29 hf (fun r5 hf => ?_)
    refine lv_iload hx hb dX7_tasteOf_32 (lv_at hl 0 rfl) ?_
    refine x_iald G C h dX7_tasteOf_34 hf (fun x6 hf => ?_)
    refine lv_iload_n hx hb dX7_tasteOf_35 rfl (lv_at hl 3 rfl) ?_
    refine jn_of (P := fun j => ∀ (x11 : Int32), j x11 = some o → ∀ (H : Heap) (locs : List Loc) (ls : Array Slot), Hs s0 D ac σ H locs → lv_has ls 7 [(0, .ref a0), (1, .int a1), (2, .int a2), (3, .int a3), (4, .int x1), (5, .int x2), (6, .int ((24 * a1) + (3 * x2)))] → W p l e ({ frames := 0, cells := 0, slots := 0, locals := 0 } : Room) s m args below meth c H locs 0 0 (MQ below (Qn s0 D ac (some (.int v)) σ) args s 0 0 (fr s0)) (F0 m 66 ls [.int x11])) hf ?_ ?_
    · intro x11 hf H locs ls h hl
      refine lv_istore (lv' := [(4, .int x11), (0, .ref a0), (1, .int a1), (2, .int a2), (3, .int a3), (5, .int x2), (6, .int ((24 * a1) + (3 * x2)))]) hx hb dX7_tasteOf_66 hl (by decide) rfl (fun ls hl => ?_)
      refine lv_iinc (v := x2 + 1) (lv' := [(5, .int (x2 + 1)), (4, .int x11), (0, .ref a0), (1, .int a1), (2, .int a2), (3, .int a3), (6, .int ((24 * a1) + (3 * x2)))]) hx hb dX7_tasteOf_68 hl (k := 5) rfl rfl (by decide) rfl (fun ls hl => ?_)
      refine lv_goto (tgt := 6) hx hb dX7_tasteOf_71 (by decide) ?_
      cases hf
      exact ih _ rfl _ _ _ h (lv_sub hl [2, 3, 4, 5, 1, 0] rfl)
    intro j66 hj66 hf
    refine jn_of (P := fun j => ∀ (u0 : Unit), j u0 = some o → ∀ (H : Heap) (locs : List Loc) (ls : Array Slot), Hs s0 D ac σ H locs → lv_has ls 7 [(0, .ref a0), (1, .int a1), (2, .int a2), (3, .int a3), (4, .int x1), (5, .int x2), (6, .int ((24 * a1) + (3 * x2)))] → W p l e ({ frames := 0, cells := 0, slots := 0, locals := 0 } : Room) s m args below meth c H locs 0 0 (MQ below (Qn s0 D ac (some (.int v)) σ) args s 0 0 (fr s0)) (F0 m 64 ls [])) hf ?_ ?_
    · intro u0 hf H locs ls h hl
      refine lv_iload hx hb dX7_tasteOf_64 (lv_at hl 4 rfl) ?_
      exact hj66 _ hf _ _ _ h (lv_sub hl [0, 1, 2, 3, 4, 5, 6] rfl)
    intro j64 hj64 hf
    refine lv_icmp_ne (tgt := 64) hx hb dX7_tasteOf_36 (by decide) (fun hc => ?_) (fun hc => ?_)
    · have hf := hf_f hc hf
      exact hj64 () hf _ _ _ h (lv_sub hl [1, 2, 3, 4, 5, 6, 0] rfl)
    · have hf := hf_t hc hf
      refine lv_aload_n hx hb dX7_tasteOf_39 rfl (lv_at hl 1 rfl) ?_
      refine x_gR (q := (RX7, TX7, 50)) (j := 31) G C h rfl (by decide) (fun _ _ _ => rfl) (lk C q1087) (fun _ z => z) dX7_tasteOf_40 hf (fun r7 hf => ?_)
      refine lv_iload hx hb dX7_tasteOf_43 (lv_at hl 0 rfl) ?_
      refine lv_iconst (v := 1) hx hb dX7_tasteOf_45 (by decide) ?_
      refine lv_iadd hx hb dX7_tasteOf_46 ?_
      refine x_iald G C h dX7_tasteOf_47 hf (fun x8 hf => ?_)
      refine lv_iload_n hx hb dX7_tasteOf_48 rfl (lv_at hl 4 rfl) ?_
      refine lv_icmp_ne (tgt := 64) hx hb dX7_tasteOf_49 (by decide) (fun hc => ?_) (fun hc => ?_)
      · have hf := hf_f hc hf
        exact hj64 () hf _ _ _ h (lv_sub hl [1, 2, 3, 4, 5, 6, 0] rfl)
      · have hf := hf_t hc hf
        refine lv_aload_n hx hb dX7_tasteOf_52 rfl (lv_at hl 1 rfl) ?_
        refine x_gR (q := (RX7, TX7, 50)) (j := 31) G C h rfl (by decide) (fun _ _ _ => rfl) (lk C q1087) (fun _ z => z) dX7_tasteOf_53 hf (fun r9 hf => ?_)
        refine lv_iload hx hb dX7_tasteOf_56 (lv_at hl 0 rfl) ?_
        refine lv_iconst (v := 2) hx hb dX7_tasteOf_58 (by decide) ?_
        refine lv_iadd hx hb dX7_tasteOf_59 ?_
        refine x_iald G C h dX7_tasteOf_60 hf (fun x10 hf => ?_)
        refine lv_goto (tgt := 66) hx hb dX7_tasteOf_61 (by decide) ?_
        exact hj66 _ hf _ _ _ h (lv_sub hl [1, 2, 3, 4, 5, 6, 0] rfl)

theorem dX7_worthOf_0 : decode cX7_worthOf 0 = .ok (.aload_n 0, 1) := by decide +kernel
theorem dX7_worthOf_1 : decode cX7_worthOf 1 = .ok (.getfield 16, 3) := by decide +kernel
theorem dX7_worthOf_4 : decode cX7_worthOf 4 = .ok (.iload_n 2, 1) := by decide +kernel
theorem dX7_worthOf_5 : decode cX7_worthOf 5 = .ok (.iaload, 1) := by decide +kernel
theorem dX7_worthOf_6 : decode cX7_worthOf 6 = .ok (.aload_n 0, 1) := by decide +kernel
theorem dX7_worthOf_7 : decode cX7_worthOf 7 = .ok (.iload_n 1, 1) := by decide +kernel
theorem dX7_worthOf_8 : decode cX7_worthOf 8 = .ok (.iconst 0, 1) := by decide +kernel
theorem dX7_worthOf_9 : decode cX7_worthOf 9 = .ok (.iconst 0, 1) := by decide +kernel
theorem dX7_worthOf_10 : decode cX7_worthOf 10 = .ok (.invokevirtual 267, 3) := by decide +kernel
theorem dX7_worthOf_13 : decode cX7_worthOf 13 = .ok (.imul, 1) := by decide +kernel
theorem dX7_worthOf_14 : decode cX7_worthOf 14 = .ok (.istore_n 3, 1) := by decide +kernel
theorem dX7_worthOf_15 : decode cX7_worthOf 15 = .ok (.iconst 0, 1) := by decide +kernel
theorem dX7_worthOf_16 : decode cX7_worthOf 16 = .ok (.istore 4, 2) := by decide +kernel
theorem dX7_worthOf_18 : decode cX7_worthOf 18 = .ok (.iconst 1, 1) := by decide +kernel
theorem dX7_worthOf_19 : decode cX7_worthOf 19 = .ok (.istore 5, 2) := by decide +kernel
theorem dX7_worthOf_21 : decode cX7_worthOf 21 = .ok (.iconst 0, 1) := by decide +kernel
theorem dX7_worthOf_22 : decode cX7_worthOf 22 = .ok (.istore 6, 2) := by decide +kernel
theorem dX7_worthOf_24 : decode cX7_worthOf 24 = .ok (.iload 6, 2) := by decide +kernel
theorem dX7_worthOf_26 : decode cX7_worthOf 26 = .ok (.aload_n 0, 1) := by decide +kernel
theorem dX7_worthOf_27 : decode cX7_worthOf 27 = .ok (.getfield 129, 3) := by decide +kernel
theorem dX7_worthOf_30 : decode cX7_worthOf 30 = .ok (.if_icmp .ge 85, 3) := by decide +kernel
theorem dX7_worthOf_33 : decode cX7_worthOf 33 = .ok (.aload_n 0, 1) := by decide +kernel
theorem dX7_worthOf_34 : decode cX7_worthOf 34 = .ok (.getfield 25, 3) := by decide +kernel
theorem dX7_worthOf_37 : decode cX7_worthOf 37 = .ok (.iload 6, 2) := by decide +kernel
theorem dX7_worthOf_39 : decode cX7_worthOf 39 = .ok (.iaload, 1) := by decide +kernel
theorem dX7_worthOf_40 : decode cX7_worthOf 40 = .ok (.iload_n 2, 1) := by decide +kernel
theorem dX7_worthOf_41 : decode cX7_worthOf 41 = .ok (.if_icmp .ne 68, 3) := by decide +kernel
theorem dX7_worthOf_44 : decode cX7_worthOf 44 = .ok (.iload_n 3, 1) := by decide +kernel
theorem dX7_worthOf_45 : decode cX7_worthOf 45 = .ok (.aload_n 0, 1) := by decide +kernel
theorem dX7_worthOf_46 : decode cX7_worthOf 46 = .ok (.iload_n 1, 1) := by decide +kernel
theorem dX7_worthOf_47 : decode cX7_worthOf 47 = .ok (.iconst 1, 1) := by decide +kernel
theorem dX7_worthOf_48 : decode cX7_worthOf 48 = .ok (.aload_n 0, 1) := by decide +kernel
theorem dX7_worthOf_49 : decode cX7_worthOf 49 = .ok (.getfield 31, 3) := by decide +kernel
theorem dX7_worthOf_52 : decode cX7_worthOf 52 = .ok (.iload 6, 2) := by decide +kernel
theorem dX7_worthOf_54 : decode cX7_worthOf 54 = .ok (.iaload, 1) := by decide +kernel
theorem dX7_worthOf_55 : decode cX7_worthOf 55 = .ok (.invokevirtual 267, 3) := by decide +kernel
theorem dX7_worthOf_58 : decode cX7_worthOf 58 = .ok (.aload_n 0, 1) := by decide +kernel
theorem dX7_worthOf_59 : decode cX7_worthOf 59 = .ok (.getfield 34, 3) := by decide +kernel
theorem dX7_worthOf_62 : decode cX7_worthOf 62 = .ok (.iload 6, 2) := by decide +kernel
theorem dX7_worthOf_64 : decode cX7_worthOf 64 = .ok (.iaload, 1) := by decide +kernel
theorem dX7_worthOf_65 : decode cX7_worthOf 65 = .ok (.aload_n 0, 1) := by decide +kernel
theorem dX7_worthOf_66 : decode cX7_worthOf 66 = .ok (.iload_n 1, 1) := by decide +kernel
theorem dX7_worthOf_67 : decode cX7_worthOf 67 = .ok (.iconst 2, 1) := by decide +kernel
theorem dX7_worthOf_68 : decode cX7_worthOf 68 = .ok (.iconst 0, 1) := by decide +kernel
theorem dX7_worthOf_69 : decode cX7_worthOf 69 = .ok (.invokevirtual 267, 3) := by decide +kernel
theorem dX7_worthOf_72 : decode cX7_worthOf 72 = .ok (.imul, 1) := by decide +kernel
theorem dX7_worthOf_73 : decode cX7_worthOf 73 = .ok (.iadd, 1) := by decide +kernel
theorem dX7_worthOf_74 : decode cX7_worthOf 74 = .ok (.iadd, 1) := by decide +kernel
theorem dX7_worthOf_75 : decode cX7_worthOf 75 = .ok (.istore_n 3, 1) := by decide +kernel
theorem dX7_worthOf_76 : decode cX7_worthOf 76 = .ok (.iload 5, 2) := by decide +kernel
theorem dX7_worthOf_78 : decode cX7_worthOf 78 = .ok (.ifCond .eq 19, 3) := by decide +kernel
theorem dX7_worthOf_81 : decode cX7_worthOf 81 = .ok (.aload_n 0, 1) := by decide +kernel
theorem dX7_worthOf_82 : decode cX7_worthOf 82 = .ok (.getfield 34, 3) := by decide +kernel
theorem dX7_worthOf_85 : decode cX7_worthOf 85 = .ok (.iload 6, 2) := by decide +kernel
theorem dX7_worthOf_87 : decode cX7_worthOf 87 = .ok (.iaload, 1) := by decide +kernel
theorem dX7_worthOf_88 : decode cX7_worthOf 88 = .ok (.iload 4, 2) := by decide +kernel
theorem dX7_worthOf_90 : decode cX7_worthOf 90 = .ok (.if_icmp .lt 7, 3) := by decide +kernel
theorem dX7_worthOf_93 : decode cX7_worthOf 93 = .ok (.iconst 1, 1) := by decide +kernel
theorem dX7_worthOf_94 : decode cX7_worthOf 94 = .ok (.goto 4, 3) := by decide +kernel
theorem dX7_worthOf_97 : decode cX7_worthOf 97 = .ok (.iconst 0, 1) := by decide +kernel
theorem dX7_worthOf_98 : decode cX7_worthOf 98 = .ok (.istore 5, 2) := by decide +kernel
theorem dX7_worthOf_100 : decode cX7_worthOf 100 = .ok (.aload_n 0, 1) := by decide +kernel
theorem dX7_worthOf_101 : decode cX7_worthOf 101 = .ok (.getfield 34, 3) := by decide +kernel
theorem dX7_worthOf_104 : decode cX7_worthOf 104 = .ok (.iload 6, 2) := by decide +kernel
theorem dX7_worthOf_106 : decode cX7_worthOf 106 = .ok (.iaload, 1) := by decide +kernel
theorem dX7_worthOf_107 : decode cX7_worthOf 107 = .ok (.istore 4, 2) := by decide +kernel
theorem dX7_worthOf_109 : decode cX7_worthOf 109 = .ok (.iinc 6 1, 3) := by decide +kernel
theorem dX7_worthOf_112 : decode cX7_worthOf 112 = .ok (.goto (-88), 3) := by decide +kernel
theorem dX7_worthOf_115 : decode cX7_worthOf 115 = .ok (.iload_n 3, 1) := by decide +kernel
theorem dX7_worthOf_116 : decode cX7_worthOf 116 = .ok (.iload 5, 2) := by decide +kernel
theorem dX7_worthOf_118 : decode cX7_worthOf 118 = .ok (.ifCond .eq 13, 3) := by decide +kernel
theorem dX7_worthOf_121 : decode cX7_worthOf 121 = .ok (.aload_n 0, 1) := by decide +kernel
theorem dX7_worthOf_122 : decode cX7_worthOf 122 = .ok (.iload_n 1, 1) := by decide +kernel
theorem dX7_worthOf_123 : decode cX7_worthOf 123 = .ok (.iconst 3, 1) := by decide +kernel
theorem dX7_worthOf_124 : decode cX7_worthOf 124 = .ok (.iconst 0, 1) := by decide +kernel
theorem dX7_worthOf_125 : decode cX7_worthOf 125 = .ok (.invokevirtual 267, 3) := by decide +kernel
theorem dX7_worthOf_128 : decode cX7_worthOf 128 = .ok (.goto 4, 3) := by decide +kernel
theorem dX7_worthOf_131 : decode cX7_worthOf 131 = .ok (.iconst 0, 1) := by decide +kernel
theorem dX7_worthOf_132 : decode cX7_worthOf 132 = .ok (.iadd, 1) := by decide +kernel
theorem dX7_worthOf_133 : decode cX7_worthOf 133 = .ok (.istore_n 3, 1) := by decide +kernel
theorem dX7_worthOf_134 : decode cX7_worthOf 134 = .ok (.iload_n 3, 1) := by decide +kernel
theorem dX7_worthOf_135 : decode cX7_worthOf 135 = .ok (.aload_n 0, 1) := by decide +kernel
theorem dX7_worthOf_136 : decode cX7_worthOf 136 = .ok (.iload_n 1, 1) := by decide +kernel
theorem dX7_worthOf_137 : decode cX7_worthOf 137 = .ok (.iconst 4, 1) := by decide +kernel
theorem dX7_worthOf_138 : decode cX7_worthOf 138 = .ok (.iconst 0, 1) := by decide +kernel
theorem dX7_worthOf_139 : decode cX7_worthOf 139 = .ok (.invokevirtual 267, 3) := by decide +kernel
theorem dX7_worthOf_142 : decode cX7_worthOf 142 = .ok (.if_icmp .ge 7, 3) := by decide +kernel
theorem dX7_worthOf_145 : decode cX7_worthOf 145 = .ok (.iconst 0, 1) := by decide +kernel
theorem dX7_worthOf_146 : decode cX7_worthOf 146 = .ok (.goto 4, 3) := by decide +kernel
theorem dX7_worthOf_149 : decode cX7_worthOf 149 = .ok (.iload_n 3, 1) := by decide +kernel
theorem dX7_worthOf_150 : decode cX7_worthOf 150 = .ok (.ireturn, 1) := by decide +kernel
def lX7_worthOf_24 (σ : St) (a0 : Nat) (a2 : Int32) (a1 : Int32) (x4 : Int32) (x5 : Int32) (x6 : Int32) (x7 : Int32) : Option ((Int32 × Int32 × Int32 × Int32) ⊕ (Int32 × Int32)) :=
  o_gI σ a0 5 7 fun x8 =>
  if x8 ≤ x7 then
    some (.inr (x4, x6))
  else
  o_gR σ a0 5 8 fun r9 =>
  o_aI σ r9 0 x7 fun x10 =>
  jn (fun (x22 : Int32) (x23 : Int32) (x24 : Int32) =>
    some (.inl (x22, x23, x24, x7 + 1))) fun j109 =>
  if x10 = a2 then
    o_gR σ a0 5 10 fun r11 =>
    o_aI σ r11 0 x7 fun x12 =>
    o_k σ a0 5 <|
    (fX7_tasteOf σ a0 a1 1 x12).bind fun x13 =>
    o_gR σ a0 5 11 fun r14 =>
    o_aI σ r14 0 x7 fun x15 =>
    o_k σ a0 5 <|
    (fX7_tasteOf σ a0 a1 2 0).bind fun x16 =>
    jn (fun (x19 : Int32) =>
      o_gR σ a0 5 11 fun r20 =>
      o_aI σ r20 0 x7 fun x21 =>
      j109 (x4 + (x13 + (x15 * x16))) x21 x19) fun j98 =>
    jn (fun (_ : Unit) =>
      j98 0) fun j97 =>
    if x6 = 0 then
      j97 ()
    else
    o_gR σ a0 5 11 fun r17 =>
    o_aI σ r17 0 x7 fun x18 =>
    if x18 < x5 then
      j97 ()
    else
    j98 1
  else
  j109 x4 x5 x6

def fX7_worthOf (σ : St) (a0 : Nat) (a1 : Int32) (a2 : Int32) : Option (Int32) :=
  o_gR σ a0 5 4 fun r1 =>
  o_aI σ r1 0 a2 fun x2 =>
  o_k σ a0 5 <|
  (fX7_tasteOf σ a0 a1 0 0).bind fun x3 =>
  (loopF fuel (fun z => lX7_worthOf_24 σ a0 a2 a1 z.1 z.2.1 z.2.2.1 z.2.2.2) (x2 * x3, 0, 1, 0)).bind <| un2 fun x25 x26 =>
  jn (fun (x28 : Int32) =>
    o_k σ a0 5 <|
    (fX7_tasteOf σ a0 a1 4 0).bind fun x29 =>
    if x29 ≤ (x25 + x28) then
      some (x25 + x28)
    else
    some 0) fun j132 =>
  if x26 = 0 then
    j132 0
  else
  o_k σ a0 5 <|
  (fX7_tasteOf σ a0 a1 3 0).bind fun x27 =>
  j132 x27

set_option maxHeartbeats 4000000 in
theorem wX7_worthOf {l : Launch} {s0 : State} {A0 : Array Value} {D : va_G} {ac : Nat → ClassId} (G : Gl s0 A0 D ac) {σ : St} {a0 : Nat} {a1 : Int32} {a2 : Int32} {v : Int32} (hf : fX7_worthOf σ a0 a1 a2 = some (v)) : Met l yX7_worthOf (ws_ yX7_worthOf cX7_worthOf 7 (some (.int))) ({ frames := 1, cells := 0, slots := 0, locals := 26 } : Room) (Pn s0 D ac [.ref a0, .int a1, .int a2] σ) (Qn s0 D ac (some (.int v)) σ) 0 0 (fr s0) := by
  refine x_met (by decide) (Nat.le_of_ble_eq_true rfl) ?_
  intro p e s m args below meth c ls C hnm h hl
  have C : Cx s0 p s m args meth c cX7_worthOf 7 "HutForShowModel" (some (.int)) := C
  have hx := C.1
  have hb := C.2.1
  have hl : lv_has ls 7 [(0, .ref a0), (1, .int a1), (2, .int a2)] := hl
  unfold fX7_worthOf at hf
  refine lv_aload_n hx hb dX7_worthOf_0 rfl (lv_at hl 0 rfl) ?_
  refine x_gR (q := (RX7, TX7, 50)) (j := 4) G C h rfl (by decide) (fun _ _ _ => rfl) (lk C q1060) (fun _ z => z) dX7_worthOf_1 hf (fun r1 hf => ?_)
  refine lv_iload_n hx hb dX7_worthOf_4 rfl (lv_at hl 2 rfl) ?_
  refine x_iald G C h dX7_worthOf_5 hf (fun x2 hf => ?_)
  refine lv_aload_n hx hb dX7_worthOf_6 rfl (lv_at hl 0 rfl) ?_
  refine lv_iload_n hx hb dX7_worthOf_7 rfl (lv_at hl 1 rfl) ?_
  refine lv_iconst (v := 0) hx hb dX7_worthOf_8 (by decide) ?_
  refine lv_iconst (v := 0) hx hb dX7_worthOf_9 (by decide) ?_
  obtain ⟨hk, hf⟩ := k_of hf
  obtain ⟨x3, hc, hf⟩ := hf_b hf
  refine x_cV (q := (RX7, TX7, 50)) (rest := [.int x2]) (As := [.int a1, .int 0, .int 0]) (n := 3) (ov := (some (.int x3))) G C h (wX7_tasteOf G hc) hk rfl (lw_V q1367 q1369 qs39 q61 q1370) (by decide +kernel) ⟨Nat.le_of_ble_eq_true rfl, Nat.le_of_ble_eq_true rfl⟩ rfl rfl rfl hl.1 rfl (Nat.le_of_ble_eq_true rfl) dX7_worthOf_10 ⟨(Nat.le_of_ble_eq_true rfl), (Nat.le_of_ble_eq_true rfl)⟩ (fun H locs h => ?_)
  refine lv_imul hx hb dX7_worthOf_13 ?_
  refine lv_istore_n (lv' := [(3, .int (x2 * x3)), (0, .ref a0), (1, .int a1), (2, .int a2)]) hx hb dX7_worthOf_14 rfl hl (by decide) rfl (fun ls hl => ?_)
  refine lv_iconst (v := 0) hx hb dX7_worthOf_15 (by decide) ?_
  refine lv_istore (lv' := [(4, .int 0), (3, .int (x2 * x3)), (0, .ref a0), (1, .int a1), (2, .int a2)]) hx hb dX7_worthOf_16 hl (by decide) rfl (fun ls hl => ?_)
  refine lv_iconst (v := 1) hx hb dX7_worthOf_18 (by decide) ?_
  refine lv_istore (lv' := [(5, .int 1), (4, .int 0), (3, .int (x2 * x3)), (0, .ref a0), (1, .int a1), (2, .int a2)]) hx hb dX7_worthOf_19 hl (by decide) rfl (fun ls hl => ?_)
  refine lv_iconst (v := 0) hx hb dX7_worthOf_21 (by decide) ?_
  refine lv_istore (lv' := [(6, .int 0), (5, .int 1), (4, .int 0), (3, .int (x2 * x3)), (0, .ref a0), (1, .int a1), (2, .int a2)]) hx hb dX7_worthOf_22 hl (by decide) rfl (fun ls hl => ?_)
  obtain ⟨e24, hL, hK⟩ := hf_b hf
  have hE24_0 : ∀ (x25 : Int32) (x26 : Int32), (x25, x26) = e24 → ∀  (H : Heap) (locs : List Loc) (ls : Array Slot), Hs s0 D ac σ H locs → lv_has ls 7 [(0, .ref a0), (1, .int a1), (2, .int a2), (3, .int x25), (5, .int x26)] → W p l e ({ frames := 1, cells := 0, slots := 0, locals := 26 } : Room) s m args below meth c H locs 0 0 (MQ below (Qn s0 D ac (some (.int v)) σ) args s 0 0 (fr s0)) (F0 m 115 ls []) := by
    intro x25 x26 he H locs ls h hl
    subst he
    have hf := hK
    have hf := hf_u2 hf
    refine lv_iload_n hx hb dX7_worthOf_115 rfl (lv_at hl 3 rfl) ?_
    refine lv_iload hx hb dX7_worthOf_116 (lv_at hl 4 rfl) ?_
    refine jn_of (P := fun j => ∀ (x28 : Int32), j x28 = some (v) → ∀ (H : Heap) (locs : List Loc) (ls : Array Slot), Hs s0 D ac σ H locs → lv_has ls 7 [(0, .ref a0), (1, .int a1), (2, .int a2), (3, .int x25), (5, .int x26)] → W p l e ({ frames := 1, cells := 0, slots := 0, locals := 26 } : Room) s m args below meth c H locs 0 0 (MQ below (Qn s0 D ac (some (.int v)) σ) args s 0 0 (fr s0)) (F0 m 132 ls [.int x28, .int x25])) hf ?_ ?_
    · intro x28 hf H locs ls h hl
      refine lv_iadd hx hb dX7_worthOf_132 ?_
      refine lv_istore_n (lv' := [(3, .int (x25 + x28)), (0, .ref a0), (1, .int a1), (2, .int a2), (5, .int x26)]) hx hb dX7_worthOf_133 rfl hl (by decide) rfl (fun ls hl => ?_)
      refine lv_iload_n hx hb dX7_worthOf_134 rfl (lv_at hl 0 rfl) ?_
      refine lv_aload_n hx hb dX7_worthOf_135 rfl (lv_at hl 1 rfl) ?_
      refine lv_iload_n hx hb dX7_worthOf_136 rfl (lv_at hl 2 rfl) ?_
      refine lv_iconst (v := 4) hx hb dX7_worthOf_137 (by decide) ?_
      refine lv_iconst (v := 0) hx hb dX7_worthOf_138 (by decide) ?_
      obtain ⟨hk, hf⟩ := k_of hf
      obtain ⟨x29, hc, hf⟩ := hf_b hf
      refine x_cV (q := (RX7, TX7, 50)) (rest := [.int (x25 + x28)]) (As := [.int a1, .int 4, .int 0]) (n := 3) (ov := (some (.int x29))) G C h (wX7_tasteOf G hc) hk rfl (lw_V q1367 q1369 qs39 q61 q1370) (by decide +kernel) ⟨Nat.le_of_ble_eq_true rfl, Nat.le_of_ble_eq_true rfl⟩ rfl rfl rfl hl.1 rfl (Nat.le_of_ble_eq_true rfl) dX7_worthOf_139 ⟨(Nat.le_of_ble_eq_true rfl), (Nat.le_of_ble_eq_true rfl)⟩ (fun H locs h => ?_)
      refine lv_icmp_ge (tgt := 149) hx hb dX7_worthOf_142 (by decide) (fun hc => ?_) (fun hc => ?_)
      · have hf := hf_t hc hf
        refine lv_iload_n hx hb dX7_worthOf_149 rfl (lv_at hl 0 rfl) ?_
        cases hf
        refine W.widen (k := 0) (n := 0) (Nat.le_of_ble_eq_true rfl) (Nat.le_of_ble_eq_true rfl) ?_
        exact x_iret C h dX7_worthOf_150
      · have hf := hf_f hc hf
        refine lv_iconst (v := 0) hx hb dX7_worthOf_145 (by decide) ?_
        refine lv_goto (tgt := 150) hx hb dX7_worthOf_146 (by decide) ?_
        cases hf
        refine W.widen (k := 0) (n := 0) (Nat.le_of_ble_eq_true rfl) (Nat.le_of_ble_eq_true rfl) ?_
        exact x_iret C h dX7_worthOf_150
    intro j132 hj132 hf
    refine lv_if_eq (tgt := 131) hx hb dX7_worthOf_118 (by decide) (fun hc => ?_) (fun hc => ?_)
    · have hf := hf_t hc hf
      refine lv_iconst (v := 0) hx hb dX7_worthOf_131 (by decide) ?_
      exact hj132 _ hf _ _ _ h (lv_sub hl [0, 1, 2, 3, 4] rfl)
    · have hf := hf_f hc hf
      refine lv_aload_n hx hb dX7_worthOf_121 rfl (lv_at hl 0 rfl) ?_
      refine lv_iload_n hx hb dX7_worthOf_122 rfl (lv_at hl 1 rfl) ?_
      refine lv_iconst (v := 3) hx hb dX7_worthOf_123 (by decide) ?_
      refine lv_iconst (v := 0) hx hb dX7_worthOf_124 (by decide) ?_
      obtain ⟨hk, hf⟩ := k_of hf
      obtain ⟨x27, hc, hf⟩ := hf_b hf
      refine x_cV (q := (RX7, TX7, 50)) (rest := [.int x25]) (As := [.int a1, .int 3, .int 0]) (n := 3) (ov := (some (.int x27))) G C h (wX7_tasteOf G hc) hk rfl (lw_V q1367 q1369 qs39 q61 q1370) (by decide +kernel) ⟨Nat.le_of_ble_eq_true rfl, Nat.le_of_ble_eq_true rfl⟩ rfl rfl rfl hl.1 rfl (Nat.le_of_ble_eq_true rfl) dX7_worthOf_125 ⟨(Nat.le_of_ble_eq_true rfl), (Nat.le_of_ble_eq_true rfl)⟩ (fun H locs h => ?_)
      refine lv_goto (tgt := 132) hx hb dX7_worthOf_128 (by decide) ?_
      exact hj132 _ hf _ _ _ h (lv_sub hl [0, 1, 2, 3, 4] rfl)
  refine loopF_ind (P := fun z => ∀ (H : Heap) (locs : List Loc) (ls : Array Slot), Hs s0 D ac σ H locs → lv_has ls 7 [(0, .ref a0), (1, .int a1), (2, .int a2), (3, .int z.1), (4, .int z.2.1), (5, .int z.2.2.1), (6, .int z.2.2.2)] → W p l e ({ frames := 1, cells := 0, slots := 0, locals := 26 } : Room) s m args below meth c H locs 0 0 (MQ below (Qn s0 D ac (some (.int v)) σ) args s 0 0 (fr s0)) (F0 m 24 ls [])) ?_ _ _ hL _ _ _ h (lv_sub hl [4, 5, 6, 3, 2, 1, 0] rfl)
  clear hK hL h hl hf
  intro z o hf ih hX H locs ls h hl
  obtain ⟨x4, x5, x6, x7⟩ := z
  have h : Hs s0 D ac σ H locs := h
  have hl : lv_has ls 7 [(0, .ref a0), (1, .int a1), (2, .int a2), (3, .int x4), (4, .int x5), (5, .int x6), (6, .int x7)] := hl
  have hf : lX7_worthOf_24 σ a0 a2 a1 x4 x5 x6 x7 = some o := hf
  unfold lX7_worthOf_24 at hf
  refine lv_iload hx hb dX7_worthOf_24 (lv_at hl 6 rfl) ?_
  refine lv_aload_n hx hb dX7_worthOf_26 rfl (lv_at hl 0 rfl) ?_
  refine x_gI (q := (RX7, TX7, 50)) (j := 7) G C h rfl (by decide) (fun _ _ _ => rfl) (lk C q1063) (fun _ z => z) dX7_worthOf_27 hf (fun x8 hf => ?_)
  refine lv_icmp_ge (tgt := 115) hx hb dX7_worthOf_30 (by decide) (fun hc => ?_) (fun hc => ?_)
  · have hf := hf_t hc hf
    cases hf
    exact hE24_0 _ _ (hX _ rfl) _ _ _ h (lv_sub hl [0, 1, 2, 3, 5] rfl)
  · have hf := hf_f hc hf
    refine lv_aload_n hx hb dX7_worthOf_33 rfl (lv_at hl 0 rfl) ?_
    refine x_gR (q := (RX7, TX7, 50)) (j := 8) G C h rfl (by decide) (fun _ _ _ => rfl) (lk C q1064) (fun _ z => z) dX7_worthOf_34 hf (fun r9 hf => ?_)
    refine lv_iload hx hb dX7_worthOf_37 (lv_at hl 6 rfl) ?_
    refine x_iald G C h dX7_worthOf_39 hf (fun x10 hf => ?_)
    refine lv_iload_n hx hb dX7_worthOf_40 rfl (lv_at hl 2 rfl) ?_
    refine jn_of (P := fun j => ∀ (x22 : Int32) (x23 : Int32) (x24 : Int32), j x22 x23 x24 = some o → ∀ (H : Heap) (locs : List Loc) (ls : Array Slot), Hs s0 D ac σ H locs → lv_has ls 7 [(0, .ref a0), (1, .int a1), (2, .int a2), (3, .int x22), (4, .int x23), (5, .int x24), (6, .int x7)] → W p l e ({ frames := 1, cells := 0, slots := 0, locals := 26 } : Room) s m args below meth c H locs 0 0 (MQ below (Qn s0 D ac (some (.int v)) σ) args s 0 0 (fr s0)) (F0 m 109 ls [])) hf ?_ ?_
    · intro x22 x23 x24 hf H locs ls h hl
      refine lv_iinc (v := x7 + 1) (lv' := [(6, .int (x7 + 1)), (0, .ref a0), (1, .int a1), (2, .int a2), (3, .int x22), (4, .int x23), (5, .int x24)]) hx hb dX7_worthOf_109 hl (k := 6) rfl rfl (by decide) rfl (fun ls hl => ?_)
      refine lv_goto (tgt := 24) hx hb dX7_worthOf_112 (by decide) ?_
      cases hf
      exact ih _ rfl _ _ _ h (lv_sub hl [1, 2, 3, 4, 5, 6, 0] rfl)
    intro j109 hj109 hf
    refine lv_icmp_ne (tgt := 109) hx hb dX7_worthOf_41 (by decide) (fun hc => ?_) (fun hc => ?_)
    · have hf := hf_f hc hf
      exact hj109 _ _ _ hf _ _ _ h (lv_sub hl [0, 1, 2, 3, 4, 5, 6] rfl)
    · have hf := hf_t hc hf
      refine lv_iload_n hx hb dX7_worthOf_44 rfl (lv_at hl 3 rfl) ?_
      refine lv_aload_n hx hb dX7_worthOf_45 rfl (lv_at hl 0 rfl) ?_
      refine lv_iload_n hx hb dX7_worthOf_46 rfl (lv_at hl 1 rfl) ?_
      refine lv_iconst (v := 1) hx hb dX7_worthOf_47 (by decide) ?_
      refine lv_aload_n hx hb dX7_worthOf_48 rfl (lv_at hl 0 rfl) ?_
      refine x_gR (q := (RX7, TX7, 50)) (j := 10) G C h rfl (by decide) (fun _ _ _ => rfl) (lk C q1066) (fun _ z => z) dX7_worthOf_49 hf (fun r11 hf => ?_)
      refine lv_iload hx hb dX7_worthOf_52 (lv_at hl 6 rfl) ?_
      refine x_iald G C h dX7_worthOf_54 hf (fun x12 hf => ?_)
      obtain ⟨hk, hf⟩ := k_of hf
      obtain ⟨x13, hc, hf⟩ := hf_b hf
      refine x_cV (q := (RX7, TX7, 50)) (rest := [.int x4]) (As := [.int a1, .int 1, .int x12]) (n := 3) (ov := (some (.int x13))) G C h (wX7_tasteOf G hc) hk rfl (lw_V q1367 q1369 qs39 q61 q1370) (by decide +kernel) ⟨Nat.le_of_ble_eq_true rfl, Nat.le_of_ble_eq_true rfl⟩ rfl rfl rfl hl.1 rfl (Nat.le_of_ble_eq_true rfl) dX7_worthOf_55 ⟨(Nat.le_of_ble_eq_true rfl), (Nat.le_of_ble_eq_true rfl)⟩ (fun H locs h => ?_)
      refine lv_aload_n hx hb dX7_worthOf_58 rfl (lv_at hl 0 rfl) ?_
      refine x_gR (q := (RX7, TX7, 50)) (j := 11) G C h rfl (by decide) (fun _ _ _ => rfl) (lk C q1067) (fun _ z => z) dX7_worthOf_59 hf (fun r14 hf => ?_)
      refine lv_iload hx hb dX7_worthOf_62 (lv_at hl 6 rfl) ?_
      refine x_iald G C h dX7_worthOf_64 hf (fun x15 hf => ?_)
      refine lv_aload_n hx hb dX7_worthOf_65 rfl (lv_at hl 0 rfl) ?_
      refine lv_iload_n hx hb dX7_worthOf_66 rfl (lv_at hl 1 rfl) ?_
      refine lv_iconst (v := 2) hx hb dX7_worthOf_67 (by decide) ?_
      refine lv_iconst (v := 0) hx hb dX7_worthOf_68 (by decide) ?_
      obtain ⟨hk, hf⟩ := k_of hf
      obtain ⟨x16, hc, hf⟩ := hf_b hf
      refine x_cV (q := (RX7, TX7, 50)) (rest := [.int x15, .int x13, .int x4]) (As := [.int a1, .int 2, .int 0]) (n := 3) (ov := (some (.int x16))) G C h (wX7_tasteOf G hc) hk rfl (lw_V q1367 q1369 qs39 q61 q1370) (by decide +kernel) ⟨Nat.le_of_ble_eq_true rfl, Nat.le_of_ble_eq_true rfl⟩ rfl rfl rfl hl.1 rfl (Nat.le_of_ble_eq_true rfl) dX7_worthOf_69 ⟨(Nat.le_of_ble_eq_true rfl), (Nat.le_of_ble_eq_true rfl)⟩ (fun H locs h => ?_)
      refine lv_imul hx hb dX7_worthOf_72 ?_
      refine lv_iadd hx hb dX7_worthOf_73 ?_
      refine lv_iadd hx hb dX7_worthOf_74 ?_
      refine lv_istore_n (lv' := [(3, .int (x4 + (x13 + (x15 * x16)))), (0, .ref a0), (1, .int a1), (2, .int a2), (4, .int x5), (5, .int x6), (6, .int x7)]) hx hb dX7_worthOf_75 rfl hl (by decide) rfl (fun ls hl => ?_)
      refine lv_iload hx hb dX7_worthOf_76 (lv_at hl 5 rfl) ?_
      refine jn_of (P := fun j => ∀ (x19 : Int32), j x19 = some o → ∀ (H : Heap) (locs : List Loc) (ls : Array Slot), Hs s0 D ac σ H locs → lv_has ls 7 [(0, .ref a0), (1, .int a1), (2, .int a2), (3, .int (x4 + (x13 + (x15 * x16)))), (4, .int x5), (5, .int x6), (6, .int x7)] → W p l e ({ frames := 1, cells := 0, slots := 0, locals := 26 } : Room) s m args below meth c H locs 0 0 (MQ below (Qn s0 D ac (some (.int v)) σ) args s 0 0 (fr s0)) (F0 m 98 ls [.int x19])) hf ?_ ?_
      · intro x19 hf H locs ls h hl
        refine lv_istore (lv' := [(5, .int x19), (0, .ref a0), (1, .int a1), (2, .int a2), (3, .int (x4 + (x13 + (x15 * x16)))), (4, .int x5), (6, .int x7)]) hx hb dX7_worthOf_98 hl (by decide) rfl (fun ls hl => ?_)
        refine lv_aload_n hx hb dX7_worthOf_100 rfl (lv_at hl 1 rfl) ?_
        refine x_gR (q := (RX7, TX7, 50)) (j := 11) G C h rfl (by decide) (fun _ _ _ => rfl) (lk C q1067) (fun _ z => z) dX7_worthOf_101 hf (fun r20 hf => ?_)
        refine lv_iload hx hb dX7_worthOf_104 (lv_at hl 6 rfl) ?_
        refine x_iald G C h dX7_worthOf_106 hf (fun x21 hf => ?_)
        refine lv_istore (lv' := [(4, .int x21), (5, .int x19), (0, .ref a0), (1, .int a1), (2, .int a2), (3, .int (x4 + (x13 + (x15 * x16)))), (6, .int x7)]) hx hb dX7_worthOf_107 hl (by decide) rfl (fun ls hl => ?_)
        exact hj109 _ _ _ hf _ _ _ h (lv_sub hl [2, 3, 4, 5, 0, 1, 6] rfl)
      intro j98 hj98 hf
      refine jn_of (P := fun j => ∀ (u0 : Unit), j u0 = some o → ∀ (H : Heap) (locs : List Loc) (ls : Array Slot), Hs s0 D ac σ H locs → lv_has ls 7 [(0, .ref a0), (1, .int a1), (2, .int a2), (3, .int (x4 + (x13 + (x15 * x16)))), (4, .int x5), (5, .int x6), (6, .int x7)] → W p l e ({ frames := 1, cells := 0, slots := 0, locals := 26 } : Room) s m args below meth c H locs 0 0 (MQ below (Qn s0 D ac (some (.int v)) σ) args s 0 0 (fr s0)) (F0 m 97 ls [])) hf ?_ ?_
      · intro u0 hf H locs ls h hl
        refine lv_iconst (v := 0) hx hb dX7_worthOf_97 (by decide) ?_
        exact hj98 _ hf _ _ _ h (lv_sub hl [0, 1, 2, 3, 4, 5, 6] rfl)
      intro j97 hj97 hf
      refine lv_if_eq (tgt := 97) hx hb dX7_worthOf_78 (by decide) (fun hc => ?_) (fun hc => ?_)
      · have hf := hf_t hc hf
        exact hj97 () hf _ _ _ h (lv_sub hl [1, 2, 3, 0, 4, 5, 6] rfl)
      · have hf := hf_f hc hf
        refine lv_aload_n hx hb dX7_worthOf_81 rfl (lv_at hl 1 rfl) ?_
        refine x_gR (q := (RX7, TX7, 50)) (j := 11) G C h rfl (by decide) (fun _ _ _ => rfl) (lk C q1067) (fun _ z => z) dX7_worthOf_82 hf (fun r17 hf => ?_)
        refine lv_iload hx hb dX7_worthOf_85 (lv_at hl 6 rfl) ?_
        refine x_iald G C h dX7_worthOf_87 hf (fun x18 hf => ?_)
        refine lv_iload hx hb dX7_worthOf_88 (lv_at hl 4 rfl) ?_
        refine lv_icmp_lt (tgt := 97) hx hb dX7_worthOf_90 (by decide) (fun hc => ?_) (fun hc => ?_)
        · have hf := hf_t hc hf
          exact hj97 () hf _ _ _ h (lv_sub hl [1, 2, 3, 0, 4, 5, 6] rfl)
        · have hf := hf_f hc hf
          refine lv_iconst (v := 1) hx hb dX7_worthOf_93 (by decide) ?_
          refine lv_goto (tgt := 98) hx hb dX7_worthOf_94 (by decide) ?_
          exact hj98 _ hf _ _ _ h (lv_sub hl [1, 2, 3, 0, 4, 5, 6] rfl)

theorem dX7_worth_0 : decode cX7_worth 0 = .ok (.iload_n 1, 1) := by decide +kernel
theorem dX7_worth_1 : decode cX7_worth 1 = .ok (.invokestatic 264, 3) := by decide +kernel
theorem dX7_worth_4 : decode cX7_worth 4 = .ok (.ifCond .eq 20, 3) := by decide +kernel
theorem dX7_worth_7 : decode cX7_worth 7 = .ok (.aload_n 0, 1) := by decide +kernel
theorem dX7_worth_8 : decode cX7_worth 8 = .ok (.iload_n 2, 1) := by decide +kernel
theorem dX7_worth_9 : decode cX7_worth 9 = .ok (.invokevirtual 121, 3) := by decide +kernel
theorem dX7_worth_12 : decode cX7_worth 12 = .ok (.ifCond .eq 12, 3) := by decide +kernel
theorem dX7_worth_15 : decode cX7_worth 15 = .ok (.aload_n 0, 1) := by decide +kernel
theorem dX7_worth_16 : decode cX7_worth 16 = .ok (.iload_n 1, 1) := by decide +kernel
theorem dX7_worth_17 : decode cX7_worth 17 = .ok (.iload_n 2, 1) := by decide +kernel
theorem dX7_worth_18 : decode cX7_worth 18 = .ok (.invokevirtual 270, 3) := by decide +kernel
theorem dX7_worth_21 : decode cX7_worth 21 = .ok (.goto 5, 3) := by decide +kernel
theorem dX7_worth_24 : decode cX7_worth 24 = .ok (.bipush (-2), 2) := by decide +kernel
theorem dX7_worth_26 : decode cX7_worth 26 = .ok (.ireturn, 1) := by decide +kernel
def fX7_worth (σ : St) (a0 : Nat) (a1 : Int32) (a2 : Int32) : Option (Int32) :=
  (fX7_isVisitor σ a1).bind fun x1 =>
  jn (fun (_ : Unit) =>
    some ((-2))) fun j24 =>
  if x1 = 0 then
    j24 ()
  else
  o_k σ a0 5 <|
  (fX7_isHut σ a0 a2).bind fun x2 =>
  if x2 = 0 then
    j24 ()
  else
  o_k σ a0 5 <|
  (fX7_worthOf σ a0 a1 a2).bind fun x3 =>
  some x3

set_option maxHeartbeats 4000000 in
theorem wX7_worth {l : Launch} {s0 : State} {A0 : Array Value} {D : va_G} {ac : Nat → ClassId} (G : Gl s0 A0 D ac) {σ : St} {a0 : Nat} {a1 : Int32} {a2 : Int32} {v : Int32} (hf : fX7_worth σ a0 a1 a2 = some (v)) : Met l yX7_worth (ws_ yX7_worth cX7_worth 3 (some (.int))) ({ frames := 2, cells := 0, slots := 0, locals := 52 } : Room) (Pn s0 D ac [.ref a0, .int a1, .int a2] σ) (Qn s0 D ac (some (.int v)) σ) 0 0 (fr s0) := by
  refine x_met (by decide) (Nat.le_of_ble_eq_true rfl) ?_
  intro p e s m args below meth c ls C hnm h hl
  have C : Cx s0 p s m args meth c cX7_worth 3 "HutForShowModel" (some (.int)) := C
  have hx := C.1
  have hb := C.2.1
  have hl : lv_has ls 3 [(0, .ref a0), (1, .int a1), (2, .int a2)] := hl
  unfold fX7_worth at hf
  refine lv_iload_n hx hb dX7_worth_0 rfl (lv_at hl 1 rfl) ?_
  obtain ⟨x1, hc, hf⟩ := hf_b hf
  refine x_cS (rest := []) (As := [.int a1]) (n := 1) (ov := (some (.int x1))) C h (wX7_isVisitor G hc) (lw_S q1352 q1353 q61 q1354) (by decide +kernel) ⟨Nat.le_of_ble_eq_true rfl, Nat.le_of_ble_eq_true rfl⟩ rfl rfl rfl hl.1 rfl (Nat.le_of_ble_eq_true rfl) dX7_worth_1 ⟨(Nat.le_of_ble_eq_true rfl), (Nat.le_of_ble_eq_true rfl)⟩ (fun H locs h => ?_)
  refine jn_of (P := fun j => ∀ (u0 : Unit), j u0 = some (v) → ∀ (H : Heap) (locs : List Loc) (ls : Array Slot), Hs s0 D ac σ H locs → lv_has ls 3 [(0, .ref a0), (1, .int a1), (2, .int a2)] → W p l e ({ frames := 2, cells := 0, slots := 0, locals := 52 } : Room) s m args below meth c H locs 0 0 (MQ below (Qn s0 D ac (some (.int v)) σ) args s 0 0 (fr s0)) (F0 m 24 ls [])) hf ?_ ?_
  · intro u0 hf H locs ls h hl
    refine lv_bipush (v := (-2)) hx hb dX7_worth_24 (by decide) ?_
    cases hf
    refine W.widen (k := 0) (n := 0) (Nat.le_of_ble_eq_true rfl) (Nat.le_of_ble_eq_true rfl) ?_
    exact x_iret C h dX7_worth_26
  intro j24 hj24 hf
  refine lv_if_eq (tgt := 24) hx hb dX7_worth_4 (by decide) (fun hc => ?_) (fun hc => ?_)
  · have hf := hf_t hc hf
    exact hj24 () hf _ _ _ h (lv_sub hl [0, 1, 2] rfl)
  · have hf := hf_f hc hf
    refine lv_aload_n hx hb dX7_worth_7 rfl (lv_at hl 0 rfl) ?_
    refine lv_iload_n hx hb dX7_worth_8 rfl (lv_at hl 2 rfl) ?_
    obtain ⟨hk, hf⟩ := k_of hf
    obtain ⟨x2, hc, hf⟩ := hf_b hf
    refine x_cV (q := (RX7, TX7, 50)) (rest := []) (As := [.int a2]) (n := 1) (ov := (some (.int x2))) G C h (wX7_isHut G hc) hk rfl (lw_V q1218 q1220 qs22 q61 q1221) (by decide +kernel) ⟨Nat.le_of_ble_eq_true rfl, Nat.le_of_ble_eq_true rfl⟩ rfl rfl rfl hl.1 rfl (Nat.le_of_ble_eq_true rfl) dX7_worth_9 ⟨(Nat.le_of_ble_eq_true rfl), (Nat.le_of_ble_eq_true rfl)⟩ (fun H locs h => ?_)
    refine lv_if_eq (tgt := 24) hx hb dX7_worth_12 (by decide) (fun hc => ?_) (fun hc => ?_)
    · have hf := hf_t hc hf
      exact hj24 () hf _ _ _ h (lv_sub hl [0, 1, 2] rfl)
    · have hf := hf_f hc hf
      refine lv_aload_n hx hb dX7_worth_15 rfl (lv_at hl 0 rfl) ?_
      refine lv_iload_n hx hb dX7_worth_16 rfl (lv_at hl 1 rfl) ?_
      refine lv_iload_n hx hb dX7_worth_17 rfl (lv_at hl 2 rfl) ?_
      obtain ⟨hk, hf⟩ := k_of hf
      obtain ⟨x3, hc, hf⟩ := hf_b hf
      refine x_cV (q := (RX7, TX7, 50)) (rest := []) (As := [.int a1, .int a2]) (n := 2) (ov := (some (.int x3))) G C h (wX7_worthOf G hc) hk rfl (lw_V q1363 q1365 qs38 q61 q1366) (by decide +kernel) ⟨Nat.le_of_ble_eq_true rfl, Nat.le_of_ble_eq_true rfl⟩ rfl rfl rfl hl.1 rfl (Nat.le_of_ble_eq_true rfl) dX7_worth_18 ⟨(Nat.le_of_ble_eq_true rfl), (Nat.le_of_ble_eq_true rfl)⟩ (fun H locs h => ?_)
      refine lv_goto (tgt := 26) hx hb dX7_worth_21 (by decide) ?_
      cases hf
      refine W.widen (k := 0) (n := 0) (Nat.le_of_ble_eq_true rfl) (Nat.le_of_ble_eq_true rfl) ?_
      exact x_iret C h dX7_worth_26
