set_option maxRecDepth 100000
theorem dX7_row_0 : decode cX7_row 0 = .ok (.iload_n 1, 1) := by decide +kernel
theorem dX7_row_1 : decode cX7_row 1 = .ok (.iconst 1, 1) := by decide +kernel
theorem dX7_row_2 : decode cX7_row 2 = .ok (.iconst 4, 1) := by decide +kernel
theorem dX7_row_3 : decode cX7_row 3 = .ok (.invokestatic 113, 3) := by decide +kernel
theorem dX7_row_6 : decode cX7_row 6 = .ok (.ifCond .eq 14, 3) := by decide +kernel
theorem dX7_row_9 : decode cX7_row 9 = .ok (.iload_n 2, 1) := by decide +kernel
theorem dX7_row_10 : decode cX7_row 10 = .ok (.iconst (-1), 1) := by decide +kernel
theorem dX7_row_11 : decode cX7_row 11 = .ok (.iload_n 1, 1) := by decide +kernel
theorem dX7_row_12 : decode cX7_row 12 = .ok (.iconst 1, 1) := by decide +kernel
theorem dX7_row_13 : decode cX7_row 13 = .ok (.isub, 1) := by decide +kernel
theorem dX7_row_14 : decode cX7_row 14 = .ok (.invokestatic 113, 3) := by decide +kernel
theorem dX7_row_17 : decode cX7_row 17 = .ok (.ifCond .ne 6, 3) := by decide +kernel
theorem dX7_row_20 : decode cX7_row 20 = .ok (.bipush (-3), 2) := by decide +kernel
theorem dX7_row_22 : decode cX7_row 22 = .ok (.ireturn, 1) := by decide +kernel
theorem dX7_row_23 : decode cX7_row 23 = .ok (.iconst (-1), 1) := by decide +kernel
theorem dX7_row_24 : decode cX7_row 24 = .ok (.istore_n 3, 1) := by decide +kernel
theorem dX7_row_25 : decode cX7_row 25 = .ok (.iconst (-1), 1) := by decide +kernel
theorem dX7_row_26 : decode cX7_row 26 = .ok (.istore 4, 2) := by decide +kernel
theorem dX7_row_28 : decode cX7_row 28 = .ok (.iconst 0, 1) := by decide +kernel
theorem dX7_row_29 : decode cX7_row 29 = .ok (.istore 5, 2) := by decide +kernel
theorem dX7_row_31 : decode cX7_row 31 = .ok (.aload_n 0, 1) := by decide +kernel
theorem dX7_row_32 : decode cX7_row 32 = .ok (.getfield 74, 3) := by decide +kernel
theorem dX7_row_35 : decode cX7_row 35 = .ok (.iconst 0, 1) := by decide +kernel
theorem dX7_row_36 : decode cX7_row 36 = .ok (.iconst (-1), 1) := by decide +kernel
theorem dX7_row_37 : decode cX7_row 37 = .ok (.iastore, 1) := by decide +kernel
theorem dX7_row_38 : decode cX7_row 38 = .ok (.iload 5, 2) := by decide +kernel
theorem dX7_row_40 : decode cX7_row 40 = .ok (.ifCond .lt 139, 3) := by decide +kernel
theorem dX7_row_43 : decode cX7_row 43 = .ok (.aload_n 0, 1) := by decide +kernel
theorem dX7_row_44 : decode cX7_row 44 = .ok (.getfield 74, 3) := by decide +kernel
theorem dX7_row_47 : decode cX7_row 47 = .ok (.iload 5, 2) := by decide +kernel
theorem dX7_row_49 : decode cX7_row 49 = .ok (.dup2, 1) := by decide +kernel
theorem dX7_row_50 : decode cX7_row 50 = .ok (.iaload, 1) := by decide +kernel
theorem dX7_row_51 : decode cX7_row 51 = .ok (.iconst 1, 1) := by decide +kernel
theorem dX7_row_52 : decode cX7_row 52 = .ok (.iadd, 1) := by decide +kernel
theorem dX7_row_53 : decode cX7_row 53 = .ok (.iastore, 1) := by decide +kernel
theorem dX7_row_54 : decode cX7_row 54 = .ok (.aload_n 0, 1) := by decide +kernel
theorem dX7_row_55 : decode cX7_row 55 = .ok (.getfield 74, 3) := by decide +kernel
theorem dX7_row_58 : decode cX7_row 58 = .ok (.iload 5, 2) := by decide +kernel
theorem dX7_row_60 : decode cX7_row 60 = .ok (.iaload, 1) := by decide +kernel
theorem dX7_row_61 : decode cX7_row 61 = .ok (.bipush 9, 2) := by decide +kernel
theorem dX7_row_63 : decode cX7_row 63 = .ok (.if_icmp .le 9, 3) := by decide +kernel
theorem dX7_row_66 : decode cX7_row 66 = .ok (.iinc 5 (-1), 3) := by decide +kernel
theorem dX7_row_69 : decode cX7_row 69 = .ok (.goto (-31), 3) := by decide +kernel
theorem dX7_row_72 : decode cX7_row 72 = .ok (.iload 5, 2) := by decide +kernel
theorem dX7_row_74 : decode cX7_row 74 = .ok (.iload_n 1, 1) := by decide +kernel
theorem dX7_row_75 : decode cX7_row 75 = .ok (.iconst 1, 1) := by decide +kernel
theorem dX7_row_76 : decode cX7_row 76 = .ok (.isub, 1) := by decide +kernel
theorem dX7_row_77 : decode cX7_row 77 = .ok (.if_icmp .ge 25, 3) := by decide +kernel
theorem dX7_row_80 : decode cX7_row 80 = .ok (.iinc 5 1, 3) := by decide +kernel
theorem dX7_row_83 : decode cX7_row 83 = .ok (.aload_n 0, 1) := by decide +kernel
theorem dX7_row_84 : decode cX7_row 84 = .ok (.getfield 74, 3) := by decide +kernel
theorem dX7_row_87 : decode cX7_row 87 = .ok (.iload 5, 2) := by decide +kernel
theorem dX7_row_89 : decode cX7_row 89 = .ok (.aload_n 0, 1) := by decide +kernel
theorem dX7_row_90 : decode cX7_row 90 = .ok (.getfield 74, 3) := by decide +kernel
theorem dX7_row_93 : decode cX7_row 93 = .ok (.iload 5, 2) := by decide +kernel
theorem dX7_row_95 : decode cX7_row 95 = .ok (.iconst 1, 1) := by decide +kernel
theorem dX7_row_96 : decode cX7_row 96 = .ok (.isub, 1) := by decide +kernel
theorem dX7_row_97 : decode cX7_row 97 = .ok (.iaload, 1) := by decide +kernel
theorem dX7_row_98 : decode cX7_row 98 = .ok (.iastore, 1) := by decide +kernel
theorem dX7_row_99 : decode cX7_row 99 = .ok (.goto (-61), 3) := by decide +kernel
theorem dX7_row_102 : decode cX7_row 102 = .ok (.iconst 0, 1) := by decide +kernel
theorem dX7_row_103 : decode cX7_row 103 = .ok (.istore 6, 2) := by decide +kernel
theorem dX7_row_105 : decode cX7_row 105 = .ok (.iconst 0, 1) := by decide +kernel
theorem dX7_row_106 : decode cX7_row 106 = .ok (.istore 7, 2) := by decide +kernel
theorem dX7_row_108 : decode cX7_row 108 = .ok (.iload 7, 2) := by decide +kernel
theorem dX7_row_110 : decode cX7_row 110 = .ok (.iload_n 1, 1) := by decide +kernel
theorem dX7_row_111 : decode cX7_row 111 = .ok (.if_icmp .ge 23, 3) := by decide +kernel
theorem dX7_row_114 : decode cX7_row 114 = .ok (.iload 6, 2) := by decide +kernel
theorem dX7_row_116 : decode cX7_row 116 = .ok (.iconst 1, 1) := by decide +kernel
theorem dX7_row_117 : decode cX7_row 117 = .ok (.aload_n 0, 1) := by decide +kernel
theorem dX7_row_118 : decode cX7_row 118 = .ok (.getfield 74, 3) := by decide +kernel
theorem dX7_row_121 : decode cX7_row 121 = .ok (.iload 7, 2) := by decide +kernel
theorem dX7_row_123 : decode cX7_row 123 = .ok (.iaload, 1) := by decide +kernel
theorem dX7_row_124 : decode cX7_row 124 = .ok (.ishl, 1) := by decide +kernel
theorem dX7_row_125 : decode cX7_row 125 = .ok (.ior, 1) := by decide +kernel
theorem dX7_row_126 : decode cX7_row 126 = .ok (.istore 6, 2) := by decide +kernel
theorem dX7_row_128 : decode cX7_row 128 = .ok (.iinc 7 1, 3) := by decide +kernel
theorem dX7_row_131 : decode cX7_row 131 = .ok (.goto (-23), 3) := by decide +kernel
theorem dX7_row_134 : decode cX7_row 134 = .ok (.aload_n 0, 1) := by decide +kernel
theorem dX7_row_135 : decode cX7_row 135 = .ok (.iload 6, 2) := by decide +kernel
theorem dX7_row_137 : decode cX7_row 137 = .ok (.invokevirtual 295, 3) := by decide +kernel
theorem dX7_row_140 : decode cX7_row 140 = .ok (.iload 4, 2) := by decide +kernel
theorem dX7_row_142 : decode cX7_row 142 = .ok (.if_icmp .le 8, 3) := by decide +kernel
theorem dX7_row_145 : decode cX7_row 145 = .ok (.iload 6, 2) := by decide +kernel
theorem dX7_row_147 : decode cX7_row 147 = .ok (.goto 4, 3) := by decide +kernel
theorem dX7_row_150 : decode cX7_row 150 = .ok (.iload_n 3, 1) := by decide +kernel
theorem dX7_row_151 : decode cX7_row 151 = .ok (.istore_n 3, 1) := by decide +kernel
theorem dX7_row_152 : decode cX7_row 152 = .ok (.aload_n 0, 1) := by decide +kernel
theorem dX7_row_153 : decode cX7_row 153 = .ok (.iload 6, 2) := by decide +kernel
theorem dX7_row_155 : decode cX7_row 155 = .ok (.invokevirtual 295, 3) := by decide +kernel
theorem dX7_row_158 : decode cX7_row 158 = .ok (.iload 4, 2) := by decide +kernel
theorem dX7_row_160 : decode cX7_row 160 = .ok (.if_icmp .le 12, 3) := by decide +kernel
theorem dX7_row_163 : decode cX7_row 163 = .ok (.aload_n 0, 1) := by decide +kernel
theorem dX7_row_164 : decode cX7_row 164 = .ok (.iload 6, 2) := by decide +kernel
theorem dX7_row_166 : decode cX7_row 166 = .ok (.invokevirtual 295, 3) := by decide +kernel
theorem dX7_row_169 : decode cX7_row 169 = .ok (.goto 5, 3) := by decide +kernel
theorem dX7_row_172 : decode cX7_row 172 = .ok (.iload 4, 2) := by decide +kernel
theorem dX7_row_174 : decode cX7_row 174 = .ok (.istore 4, 2) := by decide +kernel
theorem dX7_row_176 : decode cX7_row 176 = .ok (.goto (-138), 3) := by decide +kernel
theorem dX7_row_179 : decode cX7_row 179 = .ok (.iload_n 2, 1) := by decide +kernel
theorem dX7_row_180 : decode cX7_row 180 = .ok (.istore 6, 2) := by decide +kernel
theorem dX7_row_182 : decode cX7_row 182 = .ok (.iconst 0, 1) := by decide +kernel
theorem dX7_row_183 : decode cX7_row 183 = .ok (.istore 7, 2) := by decide +kernel
theorem dX7_row_185 : decode cX7_row 185 = .ok (.iload 7, 2) := by decide +kernel
theorem dX7_row_187 : decode cX7_row 187 = .ok (.bipush 10, 2) := by decide +kernel
theorem dX7_row_189 : decode cX7_row 189 = .ok (.if_icmp .ge 42, 3) := by decide +kernel
theorem dX7_row_192 : decode cX7_row 192 = .ok (.iload 6, 2) := by decide +kernel
theorem dX7_row_194 : decode cX7_row 194 = .ok (.ifCond .lt 37, 3) := by decide +kernel
theorem dX7_row_197 : decode cX7_row 197 = .ok (.iload 6, 2) := by decide +kernel
theorem dX7_row_199 : decode cX7_row 199 = .ok (.iload_n 3, 1) := by decide +kernel
theorem dX7_row_200 : decode cX7_row 200 = .ok (.iload 7, 2) := by decide +kernel
theorem dX7_row_202 : decode cX7_row 202 = .ok (.ishr, 1) := by decide +kernel
theorem dX7_row_203 : decode cX7_row 203 = .ok (.iconst 1, 1) := by decide +kernel
theorem dX7_row_204 : decode cX7_row 204 = .ok (.iand, 1) := by decide +kernel
theorem dX7_row_205 : decode cX7_row 205 = .ok (.iconst 1, 1) := by decide +kernel
theorem dX7_row_206 : decode cX7_row 206 = .ok (.if_icmp .ne 7, 3) := by decide +kernel
theorem dX7_row_209 : decode cX7_row 209 = .ok (.iconst 1, 1) := by decide +kernel
theorem dX7_row_210 : decode cX7_row 210 = .ok (.goto 4, 3) := by decide +kernel
theorem dX7_row_213 : decode cX7_row 213 = .ok (.iconst 0, 1) := by decide +kernel
theorem dX7_row_214 : decode cX7_row 214 = .ok (.isub, 1) := by decide +kernel
theorem dX7_row_215 : decode cX7_row 215 = .ok (.istore 6, 2) := by decide +kernel
theorem dX7_row_217 : decode cX7_row 217 = .ok (.iload 6, 2) := by decide +kernel
theorem dX7_row_219 : decode cX7_row 219 = .ok (.ifCond .ge 6, 3) := by decide +kernel
theorem dX7_row_222 : decode cX7_row 222 = .ok (.iload 7, 2) := by decide +kernel
theorem dX7_row_224 : decode cX7_row 224 = .ok (.ireturn, 1) := by decide +kernel
theorem dX7_row_225 : decode cX7_row 225 = .ok (.iinc 7 1, 3) := by decide +kernel
theorem dX7_row_228 : decode cX7_row 228 = .ok (.goto (-43), 3) := by decide +kernel
theorem dX7_row_231 : decode cX7_row 231 = .ok (.iload 4, 2) := by decide +kernel
theorem dX7_row_233 : decode cX7_row 233 = .ok (.ireturn, 1) := by decide +kernel
def lX7_row_108 (a1 : Int32) (σ11 : St) (a0 : Nat) (x14 : Int32) (x15 : Int32) : Option ((Int32 × Int32) ⊕ (Int32)) :=
  if a1 ≤ x15 then
    some (.inr x14)
  else
  o_gR σ11 a0 5 33 fun r16 =>
  o_aI σ11 r16 0 x15 fun x17 =>
  o_let (x14 ||| (1 <<< (x17 &&& 31))) fun x18 =>
  some (.inl (x18, x15 + 1))

def lX7_row_38 (a0 : Nat) (a1 : Int32) (σ5 : St) (x6 : Int32) (x7 : Int32) (x8 : Int32) : Option ((St × Int32 × Int32 × Int32) ⊕ (St × Int32 × Int32)) :=
  if x8 < 0 then
    some (.inr (σ5, x6, x7))
  else
  o_gR σ5 a0 5 33 fun r9 =>
  o_aI σ5 r9 0 x8 fun x10 =>
  o_sI σ5 r9 0 x8 (x10 + 1) fun σ11 =>
  o_gR σ11 a0 5 33 fun r12 =>
  o_aI σ11 r12 0 x8 fun x13 =>
  if x13 ≤ 9 then
    if (a1 - 1) ≤ x8 then
      (loopF fuel (fun z => lX7_row_108 a1 σ11 a0 z.1 z.2) (0, 0)).bind <| fun x19 =>
      o_k σ11 a0 5 <|
      (fX7_staying σ11 a0 x19).bind fun x20 =>
      jn (fun (x21 : Int32) =>
        o_k σ11 a0 5 <|
        (fX7_staying σ11 a0 x19).bind fun x22 =>
        jn (fun (x24 : Int32) =>
          some (.inl (σ11, x21, x24, x8))) fun j174 =>
        if x22 ≤ x7 then
          j174 x7
        else
        o_k σ11 a0 5 <|
        (fX7_staying σ11 a0 x19).bind fun x23 =>
        j174 x23) fun j151 =>
      if x20 ≤ x7 then
        j151 x6
      else
      j151 x19
    else
    o_gR σ11 a0 5 33 fun r25 =>
    o_gR σ11 a0 5 33 fun r26 =>
    o_aI σ11 r26 0 ((x8 + 1) - 1) fun x27 =>
    o_sI σ11 r25 0 (x8 + 1) x27 fun σ28 =>
    some (.inl (σ28, x6, x7, x8 + 1))
  else
  some (.inl (σ11, x6, x7, x8 + (-1)))

def lX7_row_185 (x30 : Int32) (x32 : Int32) (x33 : Int32) : Option ((Int32 × Int32) ⊕ ((Int32) ⊕ (Unit))) :=
  if 10 ≤ x33 then
    some (.inr (.inr ()))
  else
  if x32 < 0 then
    some (.inr (.inr ()))
  else
  jn (fun (x34 : Int32) =>
    if 0 ≤ (x32 - x34) then
      some (.inl (x32 - x34, x33 + 1))
    else
    some (.inr (.inl x33))) fun j214 =>
  if ((x30 >>> (x33 &&& 31)) &&& 1) = 1 then
    j214 1
  else
  j214 0

def fX7_row (σ : St) (a0 : Nat) (a1 : Int32) (a2 : Int32) : Option (Int32 × St) :=
  (fX7_in σ a1 1 4).bind fun x1 =>
  if x1 = 0 then
    some ((-3), σ)
  else
  (fX7_in σ a2 ((-1)) (a1 - 1)).bind fun x2 =>
  if x2 = 0 then
    some ((-3), σ)
  else
  o_gR σ a0 5 33 fun r3 =>
  o_sI σ r3 0 0 ((-1)) fun σ4 =>
  (loopF fuel (fun z => lX7_row_38 a0 a1 z.1 z.2.1 z.2.2.1 z.2.2.2) (σ4, (-1), (-1), 0)).bind <| un3 fun σ29 x30 x31 =>
  (loopF fuel (fun z => lX7_row_185 x30 z.1 z.2) (a2, 0)).bind <| sm (  fun x35 =>
    some (x35, σ29)) <| fun (_ : Unit) =>
  some (x31, σ29)

set_option maxHeartbeats 4000000 in
theorem wX7_row {l : Launch} {s0 : State} {A0 : Array Value} {D : va_G} {ac : Nat → ClassId} (G : Gl s0 A0 D ac) {σ : St} {a0 : Nat} {a1 : Int32} {a2 : Int32} {v : Int32} {σ' : St} (hf : fX7_row σ a0 a1 a2 = some (v, σ')) : Met l yX7_row (ws_ yX7_row cX7_row 8 (some (.int))) ({ frames := 1, cells := 0, slots := 0, locals := 25 } : Room) (Pn s0 D ac [.ref a0, .int a1, .int a2] σ) (Qn s0 D ac (some (.int v)) σ') 0 0 (fr s0) := by
  refine x_met (by decide) (Nat.le_of_ble_eq_true rfl) ?_
  intro p e s m args below meth c ls C hnm h hl
  have C : Cx s0 p s m args meth c cX7_row 8 "HutForShowModel" (some (.int)) := C
  have hx := C.1
  have hb := C.2.1
  have hl : lv_has ls 8 [(0, .ref a0), (1, .int a1), (2, .int a2)] := hl
  unfold fX7_row at hf
  refine lv_iload_n hx hb dX7_row_0 rfl (lv_at hl 1 rfl) ?_
  refine lv_iconst (v := 1) hx hb dX7_row_1 (by decide) ?_
  refine lv_iconst (v := 4) hx hb dX7_row_2 (by decide) ?_
  obtain ⟨x1, hc, hf⟩ := hf_b hf
  refine x_cS (rest := []) (As := [.int a1, .int 1, .int 4]) (n := 3) (ov := (some (.int x1))) C h (wX7_in G hc) (lw_S q1211 q1212 q61 q1213) (by decide +kernel) ⟨Nat.le_of_ble_eq_true rfl, Nat.le_of_ble_eq_true rfl⟩ rfl rfl rfl hl.1 rfl (Nat.le_of_ble_eq_true rfl) dX7_row_3 ⟨(Nat.le_of_ble_eq_true rfl), (Nat.le_of_ble_eq_true rfl)⟩ (fun H locs h => ?_)
  refine lv_if_eq (tgt := 20) hx hb dX7_row_6 (by decide) (fun hc => ?_) (fun hc => ?_)
  · have hf := hf_t hc hf
    refine lv_bipush (v := (-3)) hx hb dX7_row_20 (by decide) ?_
    cases hf
    refine W.widen (k := 0) (n := 0) (Nat.le_of_ble_eq_true rfl) (Nat.le_of_ble_eq_true rfl) ?_
    exact x_iret C h dX7_row_22
  · have hf := hf_f hc hf
    refine lv_iload_n hx hb dX7_row_9 rfl (lv_at hl 2 rfl) ?_
    refine lv_iconst (v := (-1)) hx hb dX7_row_10 (by decide) ?_
    refine lv_iload_n hx hb dX7_row_11 rfl (lv_at hl 1 rfl) ?_
    refine lv_iconst (v := 1) hx hb dX7_row_12 (by decide) ?_
    refine lv_isub hx hb dX7_row_13 ?_
    obtain ⟨x2, hc, hf⟩ := hf_b hf
    refine x_cS (rest := []) (As := [.int a2, .int ((-1)), .int (a1 - 1)]) (n := 3) (ov := (some (.int x2))) C h (wX7_in G hc) (lw_S q1211 q1212 q61 q1213) (by decide +kernel) ⟨Nat.le_of_ble_eq_true rfl, Nat.le_of_ble_eq_true rfl⟩ rfl rfl rfl hl.1 rfl (Nat.le_of_ble_eq_true rfl) dX7_row_14 ⟨(Nat.le_of_ble_eq_true rfl), (Nat.le_of_ble_eq_true rfl)⟩ (fun H locs h => ?_)
    refine lv_if_ne (tgt := 23) hx hb dX7_row_17 (by decide) (fun hc => ?_) (fun hc => ?_)
    · have hf := hf_f hc hf
      refine lv_iconst (v := (-1)) hx hb dX7_row_23 (by decide) ?_
      refine lv_istore_n (lv' := [(3, .int ((-1))), (0, .ref a0), (1, .int a1), (2, .int a2)]) hx hb dX7_row_24 rfl hl (by decide) rfl (fun ls hl => ?_)
      refine lv_iconst (v := (-1)) hx hb dX7_row_25 (by decide) ?_
      refine lv_istore (lv' := [(4, .int ((-1))), (3, .int ((-1))), (0, .ref a0), (1, .int a1), (2, .int a2)]) hx hb dX7_row_26 hl (by decide) rfl (fun ls hl => ?_)
      refine lv_iconst (v := 0) hx hb dX7_row_28 (by decide) ?_
      refine lv_istore (lv' := [(5, .int 0), (4, .int ((-1))), (3, .int ((-1))), (0, .ref a0), (1, .int a1), (2, .int a2)]) hx hb dX7_row_29 hl (by decide) rfl (fun ls hl => ?_)
      refine lv_aload_n hx hb dX7_row_31 rfl (lv_at hl 3 rfl) ?_
      refine x_gR (q := (RX7, TX7, 50)) (j := 33) G C h rfl (by decide) (fun _ _ _ => rfl) (lk C q1089) (fun _ z => z) dX7_row_32 hf (fun r3 hf => ?_)
      refine lv_iconst (v := 0) hx hb dX7_row_35 (by decide) ?_
      refine lv_iconst (v := (-1)) hx hb dX7_row_36 (by decide) ?_
      refine x_iast G C h dX7_row_37 hf (fun σ4 H locs h hf => ?_)
      obtain ⟨e38, hL, hK⟩ := hf_b hf
      have hE38_0 : ∀ (σ29 : St) (x30 : Int32) (x31 : Int32), (σ29, x30, x31) = e38 → ∀  (H : Heap) (locs : List Loc) (ls : Array Slot), Hs s0 D ac σ29 H locs → lv_has ls 8 [(0, .ref a0), (1, .int a1), (2, .int a2), (3, .int x30), (4, .int x31)] → W p l e ({ frames := 1, cells := 0, slots := 0, locals := 25 } : Room) s m args below meth c H locs 0 0 (MQ below (Qn s0 D ac (some (.int v)) σ') args s 0 0 (fr s0)) (F0 m 179 ls []) := by
        intro σ29 x30 x31 he H locs ls h hl
        subst he
        have hf := hK
        have hf := hf_u3 hf
        refine lv_iload_n hx hb dX7_row_179 rfl (lv_at hl 2 rfl) ?_
        refine lv_istore (lv' := [(6, .int a2), (0, .ref a0), (1, .int a1), (2, .int a2), (3, .int x30), (4, .int x31)]) hx hb dX7_row_180 hl (by decide) rfl (fun ls hl => ?_)
        refine lv_iconst (v := 0) hx hb dX7_row_182 (by decide) ?_
        refine lv_istore (lv' := [(7, .int 0), (6, .int a2), (0, .ref a0), (1, .int a1), (2, .int a2), (3, .int x30), (4, .int x31)]) hx hb dX7_row_183 hl (by decide) rfl (fun ls hl => ?_)
        obtain ⟨e185, hL, hK⟩ := hf_b hf
        have hE185_0 : ∀ (x35 : Int32), (.inl x35) = e185 → ∀  (H : Heap) (locs : List Loc) (ls : Array Slot), Hs s0 D ac σ29 H locs → lv_has ls 8 [(0, .ref a0), (1, .int a1), (2, .int a2), (3, .int x30), (4, .int x31), (7, .int x35)] → W p l e ({ frames := 1, cells := 0, slots := 0, locals := 25 } : Room) s m args below meth c H locs 0 0 (MQ below (Qn s0 D ac (some (.int v)) σ') args s 0 0 (fr s0)) (F0 m 222 ls []) := by
          intro x35 he H locs ls h hl
          subst he
          have hf := hK
          have hf := hf_sl hf
          refine lv_iload hx hb dX7_row_222 (lv_at hl 5 rfl) ?_
          cases hf
          refine W.widen (k := 0) (n := 0) (Nat.le_of_ble_eq_true rfl) (Nat.le_of_ble_eq_true rfl) ?_
          exact x_iret C h dX7_row_224
        have hE185_1 : (.inr ()) = e185 → ∀  (H : Heap) (locs : List Loc) (ls : Array Slot), Hs s0 D ac σ29 H locs → lv_has ls 8 [(0, .ref a0), (1, .int a1), (2, .int a2), (3, .int x30), (4, .int x31)] → W p l e ({ frames := 1, cells := 0, slots := 0, locals := 25 } : Room) s m args below meth c H locs 0 0 (MQ below (Qn s0 D ac (some (.int v)) σ') args s 0 0 (fr s0)) (F0 m 231 ls []) := by
          intro he H locs ls h hl
          subst he
          have hf := hK
          have hf := hf_sr hf
          refine lv_iload hx hb dX7_row_231 (lv_at hl 4 rfl) ?_
          cases hf
          refine W.widen (k := 0) (n := 0) (Nat.le_of_ble_eq_true rfl) (Nat.le_of_ble_eq_true rfl) ?_
          exact x_iret C h dX7_row_233
        refine loopF_ind (P := fun z => ∀ (H : Heap) (locs : List Loc) (ls : Array Slot), Hs s0 D ac σ29 H locs → lv_has ls 8 [(0, .ref a0), (1, .int a1), (2, .int a2), (3, .int x30), (4, .int x31), (6, .int z.1), (7, .int z.2)] → W p l e ({ frames := 1, cells := 0, slots := 0, locals := 25 } : Room) s m args below meth c H locs 0 0 (MQ below (Qn s0 D ac (some (.int v)) σ') args s 0 0 (fr s0)) (F0 m 185 ls [])) ?_ _ _ hL _ _ _ h (lv_sub hl [2, 3, 4, 5, 6, 1, 0] rfl)
        clear hK hL h hl hf
        intro z o hf ih hX H locs ls h hl
        obtain ⟨x32, x33⟩ := z
        have h : Hs s0 D ac σ29 H locs := h
        have hl : lv_has ls 8 [(0, .ref a0), (1, .int a1), (2, .int a2), (3, .int x30), (4, .int x31), (6, .int x32), (7, .int x33)] := hl
        have hf : lX7_row_185 x30 x32 x33 = some o := hf
        unfold lX7_row_185 at hf
        refine lv_iload hx hb dX7_row_185 (lv_at hl 6 rfl) ?_
        refine lv_bipush (v := 10) hx hb dX7_row_187 (by decide) ?_
        refine lv_icmp_ge (tgt := 231) hx hb dX7_row_189 (by decide) (fun hc => ?_) (fun hc => ?_)
        · have hf := hf_t hc hf
          cases hf
          exact hE185_1 (hX _ rfl) _ _ _ h (lv_sub hl [0, 1, 2, 3, 4] rfl)
        · have hf := hf_f hc hf
          refine lv_iload hx hb dX7_row_192 (lv_at hl 5 rfl) ?_
          refine lv_if_lt (tgt := 231) hx hb dX7_row_194 (by decide) (fun hc => ?_) (fun hc => ?_)
          · have hf := hf_t hc hf
            cases hf
            exact hE185_1 (hX _ rfl) _ _ _ h (lv_sub hl [0, 1, 2, 3, 4] rfl)
          · have hf := hf_f hc hf
            refine lv_iload hx hb dX7_row_197 (lv_at hl 5 rfl) ?_
            refine lv_iload_n hx hb dX7_row_199 rfl (lv_at hl 3 rfl) ?_
            refine lv_iload hx hb dX7_row_200 (lv_at hl 6 rfl) ?_
            refine lv_ishr hx hb dX7_row_202 ?_
            refine lv_iconst (v := 1) hx hb dX7_row_203 (by decide) ?_
            refine lv_iand hx hb dX7_row_204 ?_
            refine lv_iconst (v := 1) hx hb dX7_row_205 (by decide) ?_
            refine jn_of (P := fun j => ∀ (x34 : Int32), j x34 = some o → ∀ (H : Heap) (locs : List Loc) (ls : Array Slot), Hs s0 D ac σ29 H locs → lv_has ls 8 [(0, .ref a0), (1, .int a1), (2, .int a2), (3, .int x30), (4, .int x31), (6, .int x32), (7, .int x33)] → W p l e ({ frames := 1, cells := 0, slots := 0, locals := 25 } : Room) s m args below meth c H locs 0 0 (MQ below (Qn s0 D ac (some (.int v)) σ') args s 0 0 (fr s0)) (F0 m 214 ls [.int x34, .int x32])) hf ?_ ?_
            · intro x34 hf H locs ls h hl
              refine lv_isub hx hb dX7_row_214 ?_
              refine lv_istore (lv' := [(6, .int (x32 - x34)), (0, .ref a0), (1, .int a1), (2, .int a2), (3, .int x30), (4, .int x31), (7, .int x33)]) hx hb dX7_row_215 hl (by decide) rfl (fun ls hl => ?_)
              refine lv_iload hx hb dX7_row_217 (lv_at hl 0 rfl) ?_
              refine lv_if_ge (tgt := 225) hx hb dX7_row_219 (by decide) (fun hc => ?_) (fun hc => ?_)
              · have hf := hf_t hc hf
                refine lv_iinc (v := x33 + 1) (lv' := [(7, .int (x33 + 1)), (6, .int (x32 - x34)), (0, .ref a0), (1, .int a1), (2, .int a2), (3, .int x30), (4, .int x31)]) hx hb dX7_row_225 hl (k := 6) rfl rfl (by decide) rfl (fun ls hl => ?_)
                refine lv_goto (tgt := 185) hx hb dX7_row_228 (by decide) ?_
                cases hf
                exact ih _ rfl _ _ _ h (lv_sub hl [2, 3, 4, 5, 6, 1, 0] rfl)
              · have hf := hf_f hc hf
                cases hf
                exact hE185_0 _ (hX _ rfl) _ _ _ h (lv_sub hl [1, 2, 3, 4, 5, 6] rfl)
            intro j214 hj214 hf
            refine lv_icmp_ne (tgt := 213) hx hb dX7_row_206 (by decide) (fun hc => ?_) (fun hc => ?_)
            · have hf := hf_f hc hf
              refine lv_iconst (v := 0) hx hb dX7_row_213 (by decide) ?_
              exact hj214 _ hf _ _ _ h (lv_sub hl [0, 1, 2, 3, 4, 5, 6] rfl)
            · have hf := hf_t hc hf
              refine lv_iconst (v := 1) hx hb dX7_row_209 (by decide) ?_
              refine lv_goto (tgt := 214) hx hb dX7_row_210 (by decide) ?_
              exact hj214 _ hf _ _ _ h (lv_sub hl [0, 1, 2, 3, 4, 5, 6] rfl)
      refine loopF_ind (P := fun z => ∀ (H : Heap) (locs : List Loc) (ls : Array Slot), Hs s0 D ac (z.1) H locs → lv_has ls 8 [(0, .ref a0), (1, .int a1), (2, .int a2), (3, .int z.2.1), (4, .int z.2.2.1), (5, .int z.2.2.2)] → W p l e ({ frames := 1, cells := 0, slots := 0, locals := 25 } : Room) s m args below meth c H locs 0 0 (MQ below (Qn s0 D ac (some (.int v)) σ') args s 0 0 (fr s0)) (F0 m 38 ls [])) ?_ _ _ hL _ _ _ h (lv_sub hl [3, 4, 5, 2, 1, 0] rfl)
      clear hK hL h hl hf
      intro z o hf ih hX H locs ls h hl
      obtain ⟨σ5, x6, x7, x8⟩ := z
      have h : Hs s0 D ac σ5 H locs := h
      have hl : lv_has ls 8 [(0, .ref a0), (1, .int a1), (2, .int a2), (3, .int x6), (4, .int x7), (5, .int x8)] := hl
      have hf : lX7_row_38 a0 a1 σ5 x6 x7 x8 = some o := hf
      unfold lX7_row_38 at hf
      refine lv_iload hx hb dX7_row_38 (lv_at hl 5 rfl) ?_
      refine lv_if_lt (tgt := 179) hx hb dX7_row_40 (by decide) (fun hc => ?_) (fun hc => ?_)
      · have hf := hf_t hc hf
        cases hf
        exact hE38_0 _ _ _ (hX _ rfl) _ _ _ h (lv_sub hl [0, 1, 2, 3, 4] rfl)
      · have hf := hf_f hc hf
        refine lv_aload_n hx hb dX7_row_43 rfl (lv_at hl 0 rfl) ?_
        refine x_gR (q := (RX7, TX7, 50)) (j := 33) G C h rfl (by decide) (fun _ _ _ => rfl) (lk C q1089) (fun _ z => z) dX7_row_44 hf (fun r9 hf => ?_)
        refine lv_iload hx hb dX7_row_47 (lv_at hl 5 rfl) ?_
        refine lv_dup2_11 hx hb dX7_row_49 rfl rfl ?_
        refine x_iald G C h dX7_row_50 hf (fun x10 hf => ?_)
        refine lv_iconst (v := 1) hx hb dX7_row_51 (by decide) ?_
        refine lv_iadd hx hb dX7_row_52 ?_
        refine x_iast G C h dX7_row_53 hf (fun σ11 H locs h hf => ?_)
        refine lv_aload_n hx hb dX7_row_54 rfl (lv_at hl 0 rfl) ?_
        refine x_gR (q := (RX7, TX7, 50)) (j := 33) G C h rfl (by decide) (fun _ _ _ => rfl) (lk C q1089) (fun _ z => z) dX7_row_55 hf (fun r12 hf => ?_)
        refine lv_iload hx hb dX7_row_58 (lv_at hl 5 rfl) ?_
        refine x_iald G C h dX7_row_60 hf (fun x13 hf => ?_)
        refine lv_bipush (v := 9) hx hb dX7_row_61 (by decide) ?_
        refine lv_icmp_le (tgt := 72) hx hb dX7_row_63 (by decide) (fun hc => ?_) (fun hc => ?_)
        · have hf := hf_t hc hf
          refine lv_iload hx hb dX7_row_72 (lv_at hl 5 rfl) ?_
          refine lv_iload_n hx hb dX7_row_74 rfl (lv_at hl 1 rfl) ?_
          refine lv_iconst (v := 1) hx hb dX7_row_75 (by decide) ?_
          refine lv_isub hx hb dX7_row_76 ?_
          refine lv_icmp_ge (tgt := 102) hx hb dX7_row_77 (by decide) (fun hc => ?_) (fun hc => ?_)
          · have hf := hf_t hc hf
            refine lv_iconst (v := 0) hx hb dX7_row_102 (by decide) ?_
            refine lv_istore (lv' := [(6, .int 0), (0, .ref a0), (1, .int a1), (2, .int a2), (3, .int x6), (4, .int x7), (5, .int x8)]) hx hb dX7_row_103 hl (by decide) rfl (fun ls hl => ?_)
            refine lv_iconst (v := 0) hx hb dX7_row_105 (by decide) ?_
            refine lv_istore (lv' := [(7, .int 0), (6, .int 0), (0, .ref a0), (1, .int a1), (2, .int a2), (3, .int x6), (4, .int x7), (5, .int x8)]) hx hb dX7_row_106 hl (by decide) rfl (fun ls hl => ?_)
            obtain ⟨e108, hL, hK⟩ := hf_b hf
            have hE108_0 : ∀ (x19 : Int32), x19 = e108 → ∀  (H : Heap) (locs : List Loc) (ls : Array Slot), Hs s0 D ac σ11 H locs → lv_has ls 8 [(0, .ref a0), (1, .int a1), (2, .int a2), (3, .int x6), (4, .int x7), (5, .int x8), (6, .int x19)] → W p l e ({ frames := 1, cells := 0, slots := 0, locals := 25 } : Room) s m args below meth c H locs 0 0 (MQ below (Qn s0 D ac (some (.int v)) σ') args s 0 0 (fr s0)) (F0 m 134 ls []) := by
              intro x19 he H locs ls h hl
              subst he
              have hf := hK
              refine lv_aload_n hx hb dX7_row_134 rfl (lv_at hl 0 rfl) ?_
              refine lv_iload hx hb dX7_row_135 (lv_at hl 6 rfl) ?_
              obtain ⟨hk, hf⟩ := k_of hf
              obtain ⟨x20, hc, hf⟩ := hf_b hf
              refine x_cV (q := (RX7, TX7, 50)) (rest := []) (As := [.int x19]) (n := 1) (ov := (some (.int x20))) G C h (wX7_staying G hc) hk rfl (lw_V q1420 q1422 qs45 q61 q1423) (by decide +kernel) ⟨Nat.le_of_ble_eq_true rfl, Nat.le_of_ble_eq_true rfl⟩ rfl rfl rfl hl.1 rfl (Nat.le_of_ble_eq_true rfl) dX7_row_137 ⟨(Nat.le_of_ble_eq_true rfl), (Nat.le_of_ble_eq_true rfl)⟩ (fun H locs h => ?_)
              refine lv_iload hx hb dX7_row_140 (lv_at hl 4 rfl) ?_
              refine jn_of (P := fun j => ∀ (x21 : Int32), j x21 = some o → ∀ (H : Heap) (locs : List Loc) (ls : Array Slot), Hs s0 D ac σ11 H locs → lv_has ls 8 [(0, .ref a0), (1, .int a1), (2, .int a2), (3, .int x6), (4, .int x7), (5, .int x8), (6, .int x19)] → W p l e ({ frames := 1, cells := 0, slots := 0, locals := 25 } : Room) s m args below meth c H locs 0 0 (MQ below (Qn s0 D ac (some (.int v)) σ') args s 0 0 (fr s0)) (F0 m 151 ls [.int x21])) hf ?_ ?_
              · intro x21 hf H locs ls h hl
                refine lv_istore_n (lv' := [(3, .int x21), (0, .ref a0), (1, .int a1), (2, .int a2), (4, .int x7), (5, .int x8), (6, .int x19)]) hx hb dX7_row_151 rfl hl (by decide) rfl (fun ls hl => ?_)
                refine lv_aload_n hx hb dX7_row_152 rfl (lv_at hl 1 rfl) ?_
                refine lv_iload hx hb dX7_row_153 (lv_at hl 6 rfl) ?_
                obtain ⟨hk, hf⟩ := k_of hf
                obtain ⟨x22, hc, hf⟩ := hf_b hf
                refine x_cV (q := (RX7, TX7, 50)) (rest := []) (As := [.int x19]) (n := 1) (ov := (some (.int x22))) G C h (wX7_staying G hc) hk rfl (lw_V q1420 q1422 qs45 q61 q1423) (by decide +kernel) ⟨Nat.le_of_ble_eq_true rfl, Nat.le_of_ble_eq_true rfl⟩ rfl rfl rfl hl.1 rfl (Nat.le_of_ble_eq_true rfl) dX7_row_155 ⟨(Nat.le_of_ble_eq_true rfl), (Nat.le_of_ble_eq_true rfl)⟩ (fun H locs h => ?_)
                refine lv_iload hx hb dX7_row_158 (lv_at hl 4 rfl) ?_
                refine jn_of (P := fun j => ∀ (x24 : Int32), j x24 = some o → ∀ (H : Heap) (locs : List Loc) (ls : Array Slot), Hs s0 D ac σ11 H locs → lv_has ls 8 [(0, .ref a0), (1, .int a1), (2, .int a2), (3, .int x21), (4, .int x7), (5, .int x8), (6, .int x19)] → W p l e ({ frames := 1, cells := 0, slots := 0, locals := 25 } : Room) s m args below meth c H locs 0 0 (MQ below (Qn s0 D ac (some (.int v)) σ') args s 0 0 (fr s0)) (F0 m 174 ls [.int x24])) hf ?_ ?_
                · intro x24 hf H locs ls h hl
                  refine lv_istore (lv' := [(4, .int x24), (0, .ref a0), (1, .int a1), (2, .int a2), (3, .int x21), (5, .int x8), (6, .int x19)]) hx hb dX7_row_174 hl (by decide) rfl (fun ls hl => ?_)
                  refine lv_goto (tgt := 38) hx hb dX7_row_176 (by decide) ?_
                  cases hf
                  exact ih _ rfl _ _ _ h (lv_sub hl [1, 2, 3, 4, 0, 5] rfl)
                intro j174 hj174 hf
                refine lv_icmp_le (tgt := 172) hx hb dX7_row_160 (by decide) (fun hc => ?_) (fun hc => ?_)
                · have hf := hf_t hc hf
                  refine lv_iload hx hb dX7_row_172 (lv_at hl 4 rfl) ?_
                  exact hj174 _ hf _ _ _ h (lv_sub hl [1, 2, 3, 0, 4, 5, 6] rfl)
                · have hf := hf_f hc hf
                  refine lv_aload_n hx hb dX7_row_163 rfl (lv_at hl 1 rfl) ?_
                  refine lv_iload hx hb dX7_row_164 (lv_at hl 6 rfl) ?_
                  obtain ⟨hk, hf⟩ := k_of hf
                  obtain ⟨x23, hc, hf⟩ := hf_b hf
                  refine x_cV (q := (RX7, TX7, 50)) (rest := []) (As := [.int x19]) (n := 1) (ov := (some (.int x23))) G C h (wX7_staying G hc) hk rfl (lw_V q1420 q1422 qs45 q61 q1423) (by decide +kernel) ⟨Nat.le_of_ble_eq_true rfl, Nat.le_of_ble_eq_true rfl⟩ rfl rfl rfl hl.1 rfl (Nat.le_of_ble_eq_true rfl) dX7_row_166 ⟨(Nat.le_of_ble_eq_true rfl), (Nat.le_of_ble_eq_true rfl)⟩ (fun H locs h => ?_)
                  refine lv_goto (tgt := 174) hx hb dX7_row_169 (by decide) ?_
                  exact hj174 _ hf _ _ _ h (lv_sub hl [1, 2, 3, 0, 4, 5, 6] rfl)
              intro j151 hj151 hf
              refine lv_icmp_le (tgt := 150) hx hb dX7_row_142 (by decide) (fun hc => ?_) (fun hc => ?_)
              · have hf := hf_t hc hf
                refine lv_iload_n hx hb dX7_row_150 rfl (lv_at hl 3 rfl) ?_
                exact hj151 _ hf _ _ _ h (lv_sub hl [0, 1, 2, 3, 4, 5, 6] rfl)
              · have hf := hf_f hc hf
                refine lv_iload hx hb dX7_row_145 (lv_at hl 6 rfl) ?_
                refine lv_goto (tgt := 151) hx hb dX7_row_147 (by decide) ?_
                exact hj151 _ hf _ _ _ h (lv_sub hl [0, 1, 2, 3, 4, 5, 6] rfl)
            refine loopF_ind (P := fun z => ∀ (H : Heap) (locs : List Loc) (ls : Array Slot), Hs s0 D ac σ11 H locs → lv_has ls 8 [(0, .ref a0), (1, .int a1), (2, .int a2), (3, .int x6), (4, .int x7), (5, .int x8), (6, .int z.1), (7, .int z.2)] → W p l e ({ frames := 1, cells := 0, slots := 0, locals := 25 } : Room) s m args below meth c H locs 0 0 (MQ below (Qn s0 D ac (some (.int v)) σ') args s 0 0 (fr s0)) (F0 m 108 ls [])) ?_ _ _ hL _ _ _ h (lv_sub hl [2, 3, 4, 5, 6, 7, 1, 0] rfl)
            clear hK hL h hl hf
            intro z o hf ih hX H locs ls h hl
            obtain ⟨x14, x15⟩ := z
            have h : Hs s0 D ac σ11 H locs := h
            have hl : lv_has ls 8 [(0, .ref a0), (1, .int a1), (2, .int a2), (3, .int x6), (4, .int x7), (5, .int x8), (6, .int x14), (7, .int x15)] := hl
            have hf : lX7_row_108 a1 σ11 a0 x14 x15 = some o := hf
            unfold lX7_row_108 at hf
            refine lv_iload hx hb dX7_row_108 (lv_at hl 7 rfl) ?_
            refine lv_iload_n hx hb dX7_row_110 rfl (lv_at hl 1 rfl) ?_
            refine lv_icmp_ge (tgt := 134) hx hb dX7_row_111 (by decide) (fun hc => ?_) (fun hc => ?_)
            · have hf := hf_t hc hf
              cases hf
              exact hE108_0 _ (hX _ rfl) _ _ _ h (lv_sub hl [0, 1, 2, 3, 4, 5, 6] rfl)
            · have hf := hf_f hc hf
              refine lv_iload hx hb dX7_row_114 (lv_at hl 6 rfl) ?_
              refine lv_iconst (v := 1) hx hb dX7_row_116 (by decide) ?_
              refine lv_aload_n hx hb dX7_row_117 rfl (lv_at hl 0 rfl) ?_
              refine x_gR (q := (RX7, TX7, 50)) (j := 33) G C h rfl (by decide) (fun _ _ _ => rfl) (lk C q1089) (fun _ z => z) dX7_row_118 hf (fun r16 hf => ?_)
              refine lv_iload hx hb dX7_row_121 (lv_at hl 7 rfl) ?_
              refine x_iald G C h dX7_row_123 hf (fun x17 hf => ?_)
              refine lv_ishl hx hb dX7_row_124 ?_
              refine lv_ior hx hb dX7_row_125 ?_
              refine x_letI hf (fun x18 hf => ?_)
              refine lv_istore (lv' := [(6, .int x18), (0, .ref a0), (1, .int a1), (2, .int a2), (3, .int x6), (4, .int x7), (5, .int x8), (7, .int x15)]) hx hb dX7_row_126 hl (by decide) rfl (fun ls hl => ?_)
              refine lv_iinc (v := x15 + 1) (lv' := [(7, .int (x15 + 1)), (6, .int x18), (0, .ref a0), (1, .int a1), (2, .int a2), (3, .int x6), (4, .int x7), (5, .int x8)]) hx hb dX7_row_128 hl (k := 7) rfl rfl (by decide) rfl (fun ls hl => ?_)
              refine lv_goto (tgt := 108) hx hb dX7_row_131 (by decide) ?_
              cases hf
              exact ih _ rfl _ _ _ h (lv_sub hl [2, 3, 4, 5, 6, 7, 1, 0] rfl)
          · have hf := hf_f hc hf
            refine lv_iinc (v := x8 + 1) (lv' := [(5, .int (x8 + 1)), (0, .ref a0), (1, .int a1), (2, .int a2), (3, .int x6), (4, .int x7)]) hx hb dX7_row_80 hl (k := 5) rfl rfl (by decide) rfl (fun ls hl => ?_)
            refine lv_aload_n hx hb dX7_row_83 rfl (lv_at hl 1 rfl) ?_
            refine x_gR (q := (RX7, TX7, 50)) (j := 33) G C h rfl (by decide) (fun _ _ _ => rfl) (lk C q1089) (fun _ z => z) dX7_row_84 hf (fun r25 hf => ?_)
            refine lv_iload hx hb dX7_row_87 (lv_at hl 0 rfl) ?_
            refine lv_aload_n hx hb dX7_row_89 rfl (lv_at hl 1 rfl) ?_
            refine x_gR (q := (RX7, TX7, 50)) (j := 33) G C h rfl (by decide) (fun _ _ _ => rfl) (lk C q1089) (fun _ z => z) dX7_row_90 hf (fun r26 hf => ?_)
            refine lv_iload hx hb dX7_row_93 (lv_at hl 0 rfl) ?_
            refine lv_iconst (v := 1) hx hb dX7_row_95 (by decide) ?_
            refine lv_isub hx hb dX7_row_96 ?_
            refine x_iald G C h dX7_row_97 hf (fun x27 hf => ?_)
            refine x_iast G C h dX7_row_98 hf (fun σ28 H locs h hf => ?_)
            refine lv_goto (tgt := 38) hx hb dX7_row_99 (by decide) ?_
            cases hf
            exact ih _ rfl _ _ _ h (lv_sub hl [1, 2, 3, 4, 5, 0] rfl)
        · have hf := hf_f hc hf
          refine lv_iinc (v := x8 + (-1)) (lv' := [(5, .int (x8 + (-1))), (0, .ref a0), (1, .int a1), (2, .int a2), (3, .int x6), (4, .int x7)]) hx hb dX7_row_66 hl (k := 5) rfl rfl (by decide) rfl (fun ls hl => ?_)
          refine lv_goto (tgt := 38) hx hb dX7_row_69 (by decide) ?_
          cases hf
          exact ih _ rfl _ _ _ h (lv_sub hl [1, 2, 3, 4, 5, 0] rfl)
    · have hf := hf_t hc hf
      refine lv_bipush (v := (-3)) hx hb dX7_row_20 (by decide) ?_
      cases hf
      refine W.widen (k := 0) (n := 0) (Nat.le_of_ble_eq_true rfl) (Nat.le_of_ble_eq_true rfl) ?_
      exact x_iret C h dX7_row_22

theorem dX7_seen_0 : decode cX7_seen 0 = .ok (.aload_n 0, 1) := by decide +kernel
theorem dX7_seen_1 : decode cX7_seen 1 = .ok (.iload_n 2, 1) := by decide +kernel
theorem dX7_seen_2 : decode cX7_seen 2 = .ok (.invokevirtual 121, 3) := by decide +kernel
theorem dX7_seen_5 : decode cX7_seen 5 = .ok (.ifCond .ne 6, 3) := by decide +kernel
theorem dX7_seen_8 : decode cX7_seen 8 = .ok (.bipush (-2), 2) := by decide +kernel
theorem dX7_seen_10 : decode cX7_seen 10 = .ok (.ireturn, 1) := by decide +kernel
theorem dX7_seen_11 : decode cX7_seen 11 = .ok (.iload_n 1, 1) := by decide +kernel
theorem dX7_seen_12 : decode cX7_seen 12 = .ok (.iconst 0, 1) := by decide +kernel
theorem dX7_seen_13 : decode cX7_seen 13 = .ok (.bipush 15, 2) := by decide +kernel
theorem dX7_seen_15 : decode cX7_seen 15 = .ok (.invokestatic 113, 3) := by decide +kernel
theorem dX7_seen_18 : decode cX7_seen 18 = .ok (.ifCond .eq 14, 3) := by decide +kernel
theorem dX7_seen_21 : decode cX7_seen 21 = .ok (.iload_n 3, 1) := by decide +kernel
theorem dX7_seen_22 : decode cX7_seen 22 = .ok (.iconst 0, 1) := by decide +kernel
theorem dX7_seen_23 : decode cX7_seen 23 = .ok (.sipush 900, 3) := by decide +kernel
theorem dX7_seen_26 : decode cX7_seen 26 = .ok (.invokestatic 113, 3) := by decide +kernel
theorem dX7_seen_29 : decode cX7_seen 29 = .ok (.ifCond .ne 6, 3) := by decide +kernel
theorem dX7_seen_32 : decode cX7_seen 32 = .ok (.bipush (-3), 2) := by decide +kernel
theorem dX7_seen_34 : decode cX7_seen 34 = .ok (.ireturn, 1) := by decide +kernel
theorem dX7_seen_35 : decode cX7_seen 35 = .ok (.aload_n 0, 1) := by decide +kernel
theorem dX7_seen_36 : decode cX7_seen 36 = .ok (.getfield 298, 3) := by decide +kernel
theorem dX7_seen_39 : decode cX7_seen 39 = .ok (.bipush 24, 2) := by decide +kernel
theorem dX7_seen_41 : decode cX7_seen 41 = .ok (.if_icmp .ne 6, 3) := by decide +kernel
theorem dX7_seen_44 : decode cX7_seen 44 = .ok (.bipush (-5), 2) := by decide +kernel
theorem dX7_seen_46 : decode cX7_seen 46 = .ok (.ireturn, 1) := by decide +kernel
theorem dX7_seen_47 : decode cX7_seen 47 = .ok (.aload_n 0, 1) := by decide +kernel
theorem dX7_seen_48 : decode cX7_seen 48 = .ok (.getfield 86, 3) := by decide +kernel
theorem dX7_seen_51 : decode cX7_seen 51 = .ok (.aload_n 0, 1) := by decide +kernel
theorem dX7_seen_52 : decode cX7_seen 52 = .ok (.getfield 298, 3) := by decide +kernel
theorem dX7_seen_55 : decode cX7_seen 55 = .ok (.iload_n 1, 1) := by decide +kernel
theorem dX7_seen_56 : decode cX7_seen 56 = .ok (.iastore, 1) := by decide +kernel
theorem dX7_seen_57 : decode cX7_seen 57 = .ok (.aload_n 0, 1) := by decide +kernel
theorem dX7_seen_58 : decode cX7_seen 58 = .ok (.getfield 89, 3) := by decide +kernel
theorem dX7_seen_61 : decode cX7_seen 61 = .ok (.aload_n 0, 1) := by decide +kernel
theorem dX7_seen_62 : decode cX7_seen 62 = .ok (.getfield 298, 3) := by decide +kernel
theorem dX7_seen_65 : decode cX7_seen 65 = .ok (.iload_n 2, 1) := by decide +kernel
theorem dX7_seen_66 : decode cX7_seen 66 = .ok (.iastore, 1) := by decide +kernel
theorem dX7_seen_67 : decode cX7_seen 67 = .ok (.aload_n 0, 1) := by decide +kernel
theorem dX7_seen_68 : decode cX7_seen 68 = .ok (.getfield 92, 3) := by decide +kernel
theorem dX7_seen_71 : decode cX7_seen 71 = .ok (.aload_n 0, 1) := by decide +kernel
theorem dX7_seen_72 : decode cX7_seen 72 = .ok (.getfield 298, 3) := by decide +kernel
theorem dX7_seen_75 : decode cX7_seen 75 = .ok (.iload_n 3, 1) := by decide +kernel
theorem dX7_seen_76 : decode cX7_seen 76 = .ok (.iastore, 1) := by decide +kernel
theorem dX7_seen_77 : decode cX7_seen 77 = .ok (.aload_n 0, 1) := by decide +kernel
theorem dX7_seen_78 : decode cX7_seen 78 = .ok (.dup, 1) := by decide +kernel
theorem dX7_seen_79 : decode cX7_seen 79 = .ok (.getfield 298, 3) := by decide +kernel
theorem dX7_seen_82 : decode cX7_seen 82 = .ok (.iconst 1, 1) := by decide +kernel
theorem dX7_seen_83 : decode cX7_seen 83 = .ok (.iadd, 1) := by decide +kernel
theorem dX7_seen_84 : decode cX7_seen 84 = .ok (.putfield 298, 3) := by decide +kernel
theorem dX7_seen_87 : decode cX7_seen 87 = .ok (.aload_n 0, 1) := by decide +kernel
theorem dX7_seen_88 : decode cX7_seen 88 = .ok (.getfield 298, 3) := by decide +kernel
theorem dX7_seen_91 : decode cX7_seen 91 = .ok (.ireturn, 1) := by decide +kernel
def fX7_seen (σ : St) (a0 : Nat) (a1 : Int32) (a2 : Int32) (a3 : Int32) : Option (Int32 × St) :=
  o_k σ a0 5 <|
  (fX7_isHut σ a0 a2).bind fun x1 =>
  if x1 = 0 then
    some ((-2), σ)
  else
  (fX7_in σ a1 0 15).bind fun x2 =>
  if x2 = 0 then
    some ((-3), σ)
  else
  (fX7_in σ a3 0 900).bind fun x3 =>
  if x3 = 0 then
    some ((-3), σ)
  else
  o_gI σ a0 5 38 fun x4 =>
  if x4 = 24 then
    some ((-5), σ)
  else
  o_gR σ a0 5 39 fun r5 =>
  o_gI σ a0 5 38 fun x6 =>
  o_sI σ r5 0 x6 a1 fun σ7 =>
  o_gR σ7 a0 5 40 fun r8 =>
  o_gI σ7 a0 5 38 fun x9 =>
  o_sI σ7 r8 0 x9 a2 fun σ10 =>
  o_gR σ10 a0 5 41 fun r11 =>
  o_gI σ10 a0 5 38 fun x12 =>
  o_sI σ10 r11 0 x12 a3 fun σ13 =>
  o_gI σ13 a0 5 38 fun x14 =>
  o_pI σ13 a0 5 38 (x14 + 1) fun σ15 =>
  o_gI σ15 a0 5 38 fun x16 =>
  some (x16, σ15)

set_option maxHeartbeats 4000000 in
theorem wX7_seen {l : Launch} {s0 : State} {A0 : Array Value} {D : va_G} {ac : Nat → ClassId} (G : Gl s0 A0 D ac) {σ : St} {a0 : Nat} {a1 : Int32} {a2 : Int32} {a3 : Int32} {v : Int32} {σ' : St} (hf : fX7_seen σ a0 a1 a2 a3 = some (v, σ')) : Met l yX7_seen (ws_ yX7_seen cX7_seen 4 (some (.int))) ({ frames := 2, cells := 0, slots := 0, locals := 43 } : Room) (Pn s0 D ac [.ref a0, .int a1, .int a2, .int a3] σ) (Qn s0 D ac (some (.int v)) σ') 0 0 (fr s0) := by
  refine x_met (by decide) (Nat.le_of_ble_eq_true rfl) ?_
  intro p e s m args below meth c ls C hnm h hl
  have C : Cx s0 p s m args meth c cX7_seen 4 "HutForShowModel" (some (.int)) := C
  have hx := C.1
  have hb := C.2.1
  have hl : lv_has ls 4 [(0, .ref a0), (1, .int a1), (2, .int a2), (3, .int a3)] := hl
  unfold fX7_seen at hf
  refine lv_aload_n hx hb dX7_seen_0 rfl (lv_at hl 0 rfl) ?_
  refine lv_iload_n hx hb dX7_seen_1 rfl (lv_at hl 2 rfl) ?_
  obtain ⟨hk, hf⟩ := k_of hf
  obtain ⟨x1, hc, hf⟩ := hf_b hf
  refine x_cV (q := (RX7, TX7, 50)) (rest := []) (As := [.int a2]) (n := 1) (ov := (some (.int x1))) G C h (wX7_isHut G hc) hk rfl (lw_V q1218 q1220 qs22 q61 q1221) (by decide +kernel) ⟨Nat.le_of_ble_eq_true rfl, Nat.le_of_ble_eq_true rfl⟩ rfl rfl rfl hl.1 rfl (Nat.le_of_ble_eq_true rfl) dX7_seen_2 ⟨(Nat.le_of_ble_eq_true rfl), (Nat.le_of_ble_eq_true rfl)⟩ (fun H locs h => ?_)
  refine lv_if_ne (tgt := 11) hx hb dX7_seen_5 (by decide) (fun hc => ?_) (fun hc => ?_)
  · have hf := hf_f hc hf
    refine lv_iload_n hx hb dX7_seen_11 rfl (lv_at hl 1 rfl) ?_
    refine lv_iconst (v := 0) hx hb dX7_seen_12 (by decide) ?_
    refine lv_bipush (v := 15) hx hb dX7_seen_13 (by decide) ?_
    obtain ⟨x2, hc, hf⟩ := hf_b hf
    refine x_cS (rest := []) (As := [.int a1, .int 0, .int 15]) (n := 3) (ov := (some (.int x2))) C h (wX7_in G hc) (lw_S q1211 q1212 q61 q1213) (by decide +kernel) ⟨Nat.le_of_ble_eq_true rfl, Nat.le_of_ble_eq_true rfl⟩ rfl rfl rfl hl.1 rfl (Nat.le_of_ble_eq_true rfl) dX7_seen_15 ⟨(Nat.le_of_ble_eq_true rfl), (Nat.le_of_ble_eq_true rfl)⟩ (fun H locs h => ?_)
    refine lv_if_eq (tgt := 32) hx hb dX7_seen_18 (by decide) (fun hc => ?_) (fun hc => ?_)
    · have hf := hf_t hc hf
      refine lv_bipush (v := (-3)) hx hb dX7_seen_32 (by decide) ?_
      cases hf
      refine W.widen (k := 0) (n := 0) (Nat.le_of_ble_eq_true rfl) (Nat.le_of_ble_eq_true rfl) ?_
      exact x_iret C h dX7_seen_34
    · have hf := hf_f hc hf
      refine lv_iload_n hx hb dX7_seen_21 rfl (lv_at hl 3 rfl) ?_
      refine lv_iconst (v := 0) hx hb dX7_seen_22 (by decide) ?_
      refine lv_sipush (v := 900) hx hb dX7_seen_23 (by decide) ?_
      obtain ⟨x3, hc, hf⟩ := hf_b hf
      refine x_cS (rest := []) (As := [.int a3, .int 0, .int 900]) (n := 3) (ov := (some (.int x3))) C h (wX7_in G hc) (lw_S q1211 q1212 q61 q1213) (by decide +kernel) ⟨Nat.le_of_ble_eq_true rfl, Nat.le_of_ble_eq_true rfl⟩ rfl rfl rfl hl.1 rfl (Nat.le_of_ble_eq_true rfl) dX7_seen_26 ⟨(Nat.le_of_ble_eq_true rfl), (Nat.le_of_ble_eq_true rfl)⟩ (fun H locs h => ?_)
      refine lv_if_ne (tgt := 35) hx hb dX7_seen_29 (by decide) (fun hc => ?_) (fun hc => ?_)
      · have hf := hf_f hc hf
        refine lv_aload_n hx hb dX7_seen_35 rfl (lv_at hl 0 rfl) ?_
        refine x_gI (q := (RX7, TX7, 50)) (j := 38) G C h rfl (by decide) (fun _ _ _ => rfl) (lk C q1094) (fun _ z => z) dX7_seen_36 hf (fun x4 hf => ?_)
        refine lv_bipush (v := 24) hx hb dX7_seen_39 (by decide) ?_
        refine lv_icmp_ne (tgt := 47) hx hb dX7_seen_41 (by decide) (fun hc => ?_) (fun hc => ?_)
        · have hf := hf_f hc hf
          refine lv_aload_n hx hb dX7_seen_47 rfl (lv_at hl 0 rfl) ?_
          refine x_gR (q := (RX7, TX7, 50)) (j := 39) G C h rfl (by decide) (fun _ _ _ => rfl) (lk C q1095) (fun _ z => z) dX7_seen_48 hf (fun r5 hf => ?_)
          refine lv_aload_n hx hb dX7_seen_51 rfl (lv_at hl 0 rfl) ?_
          refine x_gI (q := (RX7, TX7, 50)) (j := 38) G C h rfl (by decide) (fun _ _ _ => rfl) (lk C q1094) (fun _ z => z) dX7_seen_52 hf (fun x6 hf => ?_)
          refine lv_iload_n hx hb dX7_seen_55 rfl (lv_at hl 1 rfl) ?_
          refine x_iast G C h dX7_seen_56 hf (fun σ7 H locs h hf => ?_)
          refine lv_aload_n hx hb dX7_seen_57 rfl (lv_at hl 0 rfl) ?_
          refine x_gR (q := (RX7, TX7, 50)) (j := 40) G C h rfl (by decide) (fun _ _ _ => rfl) (lk C q1096) (fun _ z => z) dX7_seen_58 hf (fun r8 hf => ?_)
          refine lv_aload_n hx hb dX7_seen_61 rfl (lv_at hl 0 rfl) ?_
          refine x_gI (q := (RX7, TX7, 50)) (j := 38) G C h rfl (by decide) (fun _ _ _ => rfl) (lk C q1094) (fun _ z => z) dX7_seen_62 hf (fun x9 hf => ?_)
          refine lv_iload_n hx hb dX7_seen_65 rfl (lv_at hl 2 rfl) ?_
          refine x_iast G C h dX7_seen_66 hf (fun σ10 H locs h hf => ?_)
          refine lv_aload_n hx hb dX7_seen_67 rfl (lv_at hl 0 rfl) ?_
          refine x_gR (q := (RX7, TX7, 50)) (j := 41) G C h rfl (by decide) (fun _ _ _ => rfl) (lk C q1097) (fun _ z => z) dX7_seen_68 hf (fun r11 hf => ?_)
          refine lv_aload_n hx hb dX7_seen_71 rfl (lv_at hl 0 rfl) ?_
          refine x_gI (q := (RX7, TX7, 50)) (j := 38) G C h rfl (by decide) (fun _ _ _ => rfl) (lk C q1094) (fun _ z => z) dX7_seen_72 hf (fun x12 hf => ?_)
          refine lv_iload_n hx hb dX7_seen_75 rfl (lv_at hl 3 rfl) ?_
          refine x_iast G C h dX7_seen_76 hf (fun σ13 H locs h hf => ?_)
          refine lv_aload_n hx hb dX7_seen_77 rfl (lv_at hl 0 rfl) ?_
          refine lv_dup hx hb dX7_seen_78 rfl ?_
          refine x_gI (q := (RX7, TX7, 50)) (j := 38) G C h rfl (by decide) (fun _ _ _ => rfl) (lk C q1094) (fun _ z => z) dX7_seen_79 hf (fun x14 hf => ?_)
          refine lv_iconst (v := 1) hx hb dX7_seen_82 (by decide) ?_
          refine lv_iadd hx hb dX7_seen_83 ?_
          refine x_pI (q := (RX7, TX7, 50)) (j := 38) G C h rfl (by decide) rfl (lk C q1094) (fun _ z => z) (Or.inl rfl) dX7_seen_84 hf (fun σ15 H locs h hf => ?_)
          refine lv_aload_n hx hb dX7_seen_87 rfl (lv_at hl 0 rfl) ?_
          refine x_gI (q := (RX7, TX7, 50)) (j := 38) G C h rfl (by decide) (fun _ _ _ => rfl) (lk C q1094) (fun _ z => z) dX7_seen_88 hf (fun x16 hf => ?_)
          cases hf
          refine W.widen (k := 0) (n := 0) (Nat.le_of_ble_eq_true rfl) (Nat.le_of_ble_eq_true rfl) ?_
          exact x_iret C h dX7_seen_91
        · have hf := hf_t hc hf
          refine lv_bipush (v := (-5)) hx hb dX7_seen_44 (by decide) ?_
          cases hf
          refine W.widen (k := 0) (n := 0) (Nat.le_of_ble_eq_true rfl) (Nat.le_of_ble_eq_true rfl) ?_
          exact x_iret C h dX7_seen_46
      · have hf := hf_t hc hf
        refine lv_bipush (v := (-3)) hx hb dX7_seen_32 (by decide) ?_
        cases hf
        refine W.widen (k := 0) (n := 0) (Nat.le_of_ble_eq_true rfl) (Nat.le_of_ble_eq_true rfl) ?_
        exact x_iret C h dX7_seen_34
  · have hf := hf_t hc hf
    refine lv_bipush (v := (-2)) hx hb dX7_seen_8 (by decide) ?_
    cases hf
    refine W.widen (k := 0) (n := 0) (Nat.le_of_ble_eq_true rfl) (Nat.le_of_ble_eq_true rfl) ?_
    exact x_iret C h dX7_seen_10

theorem dX7_firstOf_0 : decode cX7_firstOf 0 = .ok (.iconst (-1), 1) := by decide +kernel
theorem dX7_firstOf_1 : decode cX7_firstOf 1 = .ok (.istore_n 2, 1) := by decide +kernel
theorem dX7_firstOf_2 : decode cX7_firstOf 2 = .ok (.iconst 0, 1) := by decide +kernel
theorem dX7_firstOf_3 : decode cX7_firstOf 3 = .ok (.istore_n 3, 1) := by decide +kernel
theorem dX7_firstOf_4 : decode cX7_firstOf 4 = .ok (.iload_n 3, 1) := by decide +kernel
theorem dX7_firstOf_5 : decode cX7_firstOf 5 = .ok (.aload_n 0, 1) := by decide +kernel
theorem dX7_firstOf_6 : decode cX7_firstOf 6 = .ok (.getfield 298, 3) := by decide +kernel
theorem dX7_firstOf_9 : decode cX7_firstOf 9 = .ok (.if_icmp .ge 45, 3) := by decide +kernel
theorem dX7_firstOf_12 : decode cX7_firstOf 12 = .ok (.aload_n 0, 1) := by decide +kernel
theorem dX7_firstOf_13 : decode cX7_firstOf 13 = .ok (.getfield 86, 3) := by decide +kernel
theorem dX7_firstOf_16 : decode cX7_firstOf 16 = .ok (.iload_n 3, 1) := by decide +kernel
theorem dX7_firstOf_17 : decode cX7_firstOf 17 = .ok (.iaload, 1) := by decide +kernel
theorem dX7_firstOf_18 : decode cX7_firstOf 18 = .ok (.iload_n 1, 1) := by decide +kernel
theorem dX7_firstOf_19 : decode cX7_firstOf 19 = .ok (.if_icmp .ne 27, 3) := by decide +kernel
theorem dX7_firstOf_22 : decode cX7_firstOf 22 = .ok (.iload_n 2, 1) := by decide +kernel
theorem dX7_firstOf_23 : decode cX7_firstOf 23 = .ok (.iconst (-1), 1) := by decide +kernel
theorem dX7_firstOf_24 : decode cX7_firstOf 24 = .ok (.if_icmp .eq 18, 3) := by decide +kernel
theorem dX7_firstOf_27 : decode cX7_firstOf 27 = .ok (.aload_n 0, 1) := by decide +kernel
theorem dX7_firstOf_28 : decode cX7_firstOf 28 = .ok (.getfield 92, 3) := by decide +kernel
theorem dX7_firstOf_31 : decode cX7_firstOf 31 = .ok (.iload_n 3, 1) := by decide +kernel
theorem dX7_firstOf_32 : decode cX7_firstOf 32 = .ok (.iaload, 1) := by decide +kernel
theorem dX7_firstOf_33 : decode cX7_firstOf 33 = .ok (.aload_n 0, 1) := by decide +kernel
theorem dX7_firstOf_34 : decode cX7_firstOf 34 = .ok (.getfield 92, 3) := by decide +kernel
theorem dX7_firstOf_37 : decode cX7_firstOf 37 = .ok (.iload_n 2, 1) := by decide +kernel
theorem dX7_firstOf_38 : decode cX7_firstOf 38 = .ok (.iaload, 1) := by decide +kernel
theorem dX7_firstOf_39 : decode cX7_firstOf 39 = .ok (.if_icmp .ge 7, 3) := by decide +kernel
theorem dX7_firstOf_42 : decode cX7_firstOf 42 = .ok (.iload_n 3, 1) := by decide +kernel
theorem dX7_firstOf_43 : decode cX7_firstOf 43 = .ok (.goto 4, 3) := by decide +kernel
theorem dX7_firstOf_46 : decode cX7_firstOf 46 = .ok (.iload_n 2, 1) := by decide +kernel
theorem dX7_firstOf_47 : decode cX7_firstOf 47 = .ok (.istore_n 2, 1) := by decide +kernel
theorem dX7_firstOf_48 : decode cX7_firstOf 48 = .ok (.iinc 3 1, 3) := by decide +kernel
theorem dX7_firstOf_51 : decode cX7_firstOf 51 = .ok (.goto (-47), 3) := by decide +kernel
theorem dX7_firstOf_54 : decode cX7_firstOf 54 = .ok (.iload_n 2, 1) := by decide +kernel
theorem dX7_firstOf_55 : decode cX7_firstOf 55 = .ok (.ireturn, 1) := by decide +kernel
def lX7_firstOf_4 (σ : St) (a0 : Nat) (a1 : Int32) (x1 : Int32) (x2 : Int32) : Option ((Int32 × Int32) ⊕ (Int32)) :=
  o_gI σ a0 5 38 fun x3 =>
  if x3 ≤ x2 then
    some (.inr x1)
  else
  o_gR σ a0 5 39 fun r4 =>
  o_aI σ r4 0 x2 fun x5 =>
  jn (fun (x10 : Int32) =>
    some (.inl (x10, x2 + 1))) fun j47 =>
  jn (fun (_ : Unit) =>
    j47 x1) fun j46 =>
  if x5 = a1 then
    jn (fun (_ : Unit) =>
      j47 x2) fun j42 =>
    if x1 = ((-1)) then
      j42 ()
    else
    o_gR σ a0 5 41 fun r6 =>
    o_aI σ r6 0 x2 fun x7 =>
    o_gR σ a0 5 41 fun r8 =>
    o_aI σ r8 0 x1 fun x9 =>
    if x9 ≤ x7 then
      j46 ()
    else
    j42 ()
  else
  j46 ()

def fX7_firstOf (σ : St) (a0 : Nat) (a1 : Int32) : Option (Int32) :=
  (loopF fuel (fun z => lX7_firstOf_4 σ a0 a1 z.1 z.2) ((-1), 0)).bind <| fun x11 =>
  some x11

set_option maxHeartbeats 4000000 in
theorem wX7_firstOf {l : Launch} {s0 : State} {A0 : Array Value} {D : va_G} {ac : Nat → ClassId} (G : Gl s0 A0 D ac) {σ : St} {a0 : Nat} {a1 : Int32} {v : Int32} (hf : fX7_firstOf σ a0 a1 = some (v)) : Met l yX7_firstOf (ws_ yX7_firstOf cX7_firstOf 4 (some (.int))) ({ frames := 0, cells := 0, slots := 0, locals := 0 } : Room) (Pn s0 D ac [.ref a0, .int a1] σ) (Qn s0 D ac (some (.int v)) σ) 0 0 (fr s0) := by
  refine x_met (by decide) (Nat.le_of_ble_eq_true rfl) ?_
  intro p e s m args below meth c ls C hnm h hl
  have C : Cx s0 p s m args meth c cX7_firstOf 4 "HutForShowModel" (some (.int)) := C
  have hx := C.1
  have hb := C.2.1
  have hl : lv_has ls 4 [(0, .ref a0), (1, .int a1)] := hl
  unfold fX7_firstOf at hf
  refine lv_iconst (v := (-1)) hx hb dX7_firstOf_0 (by decide) ?_
  refine lv_istore_n (lv' := [(2, .int ((-1))), (0, .ref a0), (1, .int a1)]) hx hb dX7_firstOf_1 rfl hl (by decide) rfl (fun ls hl => ?_)
  refine lv_iconst (v := 0) hx hb dX7_firstOf_2 (by decide) ?_
  refine lv_istore_n (lv' := [(3, .int 0), (2, .int ((-1))), (0, .ref a0), (1, .int a1)]) hx hb dX7_firstOf_3 rfl hl (by decide) rfl (fun ls hl => ?_)
  obtain ⟨e4, hL, hK⟩ := hf_b hf
  have hE4_0 : ∀ (x11 : Int32), x11 = e4 → ∀  (H : Heap) (locs : List Loc) (ls : Array Slot), Hs s0 D ac σ H locs → lv_has ls 4 [(0, .ref a0), (1, .int a1), (2, .int x11)] → W p l e ({ frames := 0, cells := 0, slots := 0, locals := 0 } : Room) s m args below meth c H locs 0 0 (MQ below (Qn s0 D ac (some (.int v)) σ) args s 0 0 (fr s0)) (F0 m 54 ls []) := by
    intro x11 he H locs ls h hl
    subst he
    have hf := hK
    refine lv_iload_n hx hb dX7_firstOf_54 rfl (lv_at hl 2 rfl) ?_
    cases hf
    refine W.widen (k := 0) (n := 0) (Nat.le_of_ble_eq_true rfl) (Nat.le_of_ble_eq_true rfl) ?_
    exact x_iret C h dX7_firstOf_55
  refine loopF_ind (P := fun z => ∀ (H : Heap) (locs : List Loc) (ls : Array Slot), Hs s0 D ac σ H locs → lv_has ls 4 [(0, .ref a0), (1, .int a1), (2, .int z.1), (3, .int z.2)] → W p l e ({ frames := 0, cells := 0, slots := 0, locals := 0 } : Room) s m args below meth c H locs 0 0 (MQ below (Qn s0 D ac (some (.int v)) σ) args s 0 0 (fr s0)) (F0 m 4 ls [])) ?_ _ _ hL _ _ _ h (lv_sub hl [2, 3, 1, 0] rfl)
  clear hK hL h hl hf
  intro z o hf ih hX H locs ls h hl
  obtain ⟨x1, x2⟩ := z
  have h : Hs s0 D ac σ H locs := h
  have hl : lv_has ls 4 [(0, .ref a0), (1, .int a1), (2, .int x1), (3, .int x2)] := hl
  have hf : lX7_firstOf_4 σ a0 a1 x1 x2 = some o := hf
  unfold lX7_firstOf_4 at hf
  refine lv_iload_n hx hb dX7_firstOf_4 rfl (lv_at hl 3 rfl) ?_
  refine lv_aload_n hx hb dX7_firstOf_5 rfl (lv_at hl 0 rfl) ?_
  refine x_gI (q := (RX7, TX7, 50)) (j := 38) G C h rfl (by decide) (fun _ _ _ => rfl) (lk C q1094) (fun _ z => z) dX7_firstOf_6 hf (fun x3 hf => ?_)
  refine lv_icmp_ge (tgt := 54) hx hb dX7_firstOf_9 (by decide) (fun hc => ?_) (fun hc => ?_)
  · have hf := hf_t hc hf
    cases hf
    exact hE4_0 _ (hX _ rfl) _ _ _ h (lv_sub hl [0, 1, 2] rfl)
  · have hf := hf_f hc hf
    refine lv_aload_n hx hb dX7_firstOf_12 rfl (lv_at hl 0 rfl) ?_
    refine x_gR (q := (RX7, TX7, 50)) (j := 39) G C h rfl (by decide) (fun _ _ _ => rfl) (lk C q1095) (fun _ z => z) dX7_firstOf_13 hf (fun r4 hf => ?_)
    refine lv_iload_n hx hb dX7_firstOf_16 rfl (lv_at hl 3 rfl) ?_
    refine x_iald G C h dX7_firstOf_17 hf (fun x5 hf => ?_)
    refine lv_iload_n hx hb dX7_firstOf_18 rfl (lv_at hl 1 rfl) ?_
    refine jn_of (P := fun j => ∀ (x10 : Int32), j x10 = some o → ∀ (H : Heap) (locs : List Loc) (ls : Array Slot), Hs s0 D ac σ H locs → lv_has ls 4 [(0, .ref a0), (1, .int a1), (2, .int x1), (3, .int x2)] → W p l e ({ frames := 0, cells := 0, slots := 0, locals := 0 } : Room) s m args below meth c H locs 0 0 (MQ below (Qn s0 D ac (some (.int v)) σ) args s 0 0 (fr s0)) (F0 m 47 ls [.int x10])) hf ?_ ?_
    · intro x10 hf H locs ls h hl
      refine lv_istore_n (lv' := [(2, .int x10), (0, .ref a0), (1, .int a1), (3, .int x2)]) hx hb dX7_firstOf_47 rfl hl (by decide) rfl (fun ls hl => ?_)
      refine lv_iinc (v := x2 + 1) (lv' := [(3, .int (x2 + 1)), (2, .int x10), (0, .ref a0), (1, .int a1)]) hx hb dX7_firstOf_48 hl (k := 3) rfl rfl (by decide) rfl (fun ls hl => ?_)
      refine lv_goto (tgt := 4) hx hb dX7_firstOf_51 (by decide) ?_
      cases hf
      exact ih _ rfl _ _ _ h (lv_sub hl [2, 3, 1, 0] rfl)
    intro j47 hj47 hf
    refine jn_of (P := fun j => ∀ (u0 : Unit), j u0 = some o → ∀ (H : Heap) (locs : List Loc) (ls : Array Slot), Hs s0 D ac σ H locs → lv_has ls 4 [(0, .ref a0), (1, .int a1), (2, .int x1), (3, .int x2)] → W p l e ({ frames := 0, cells := 0, slots := 0, locals := 0 } : Room) s m args below meth c H locs 0 0 (MQ below (Qn s0 D ac (some (.int v)) σ) args s 0 0 (fr s0)) (F0 m 46 ls [])) hf ?_ ?_
    · intro u0 hf H locs ls h hl
      refine lv_iload_n hx hb dX7_firstOf_46 rfl (lv_at hl 2 rfl) ?_
      exact hj47 _ hf _ _ _ h (lv_sub hl [0, 1, 2, 3] rfl)
    intro j46 hj46 hf
    refine lv_icmp_ne (tgt := 46) hx hb dX7_firstOf_19 (by decide) (fun hc => ?_) (fun hc => ?_)
    · have hf := hf_f hc hf
      exact hj46 () hf _ _ _ h (lv_sub hl [0, 1, 2, 3] rfl)
    · have hf := hf_t hc hf
      refine lv_iload_n hx hb dX7_firstOf_22 rfl (lv_at hl 2 rfl) ?_
      refine lv_iconst (v := (-1)) hx hb dX7_firstOf_23 (by decide) ?_
      refine jn_of (P := fun j => ∀ (u0 : Unit), j u0 = some o → ∀ (H : Heap) (locs : List Loc) (ls : Array Slot), Hs s0 D ac σ H locs → lv_has ls 4 [(0, .ref a0), (1, .int a1), (2, .int x1), (3, .int x2)] → W p l e ({ frames := 0, cells := 0, slots := 0, locals := 0 } : Room) s m args below meth c H locs 0 0 (MQ below (Qn s0 D ac (some (.int v)) σ) args s 0 0 (fr s0)) (F0 m 42 ls [])) hf ?_ ?_
      · intro u0 hf H locs ls h hl
        refine lv_iload_n hx hb dX7_firstOf_42 rfl (lv_at hl 3 rfl) ?_
        refine lv_goto (tgt := 47) hx hb dX7_firstOf_43 (by decide) ?_
        exact hj47 _ hf _ _ _ h (lv_sub hl [0, 1, 2, 3] rfl)
      intro j42 hj42 hf
      refine lv_icmp_eq (tgt := 42) hx hb dX7_firstOf_24 (by decide) (fun hc => ?_) (fun hc => ?_)
      · have hf := hf_t hc hf
        exact hj42 () hf _ _ _ h (lv_sub hl [0, 1, 2, 3] rfl)
      · have hf := hf_f hc hf
        refine lv_aload_n hx hb dX7_firstOf_27 rfl (lv_at hl 0 rfl) ?_
        refine x_gR (q := (RX7, TX7, 50)) (j := 41) G C h rfl (by decide) (fun _ _ _ => rfl) (lk C q1097) (fun _ z => z) dX7_firstOf_28 hf (fun r6 hf => ?_)
        refine lv_iload_n hx hb dX7_firstOf_31 rfl (lv_at hl 3 rfl) ?_
        refine x_iald G C h dX7_firstOf_32 hf (fun x7 hf => ?_)
        refine lv_aload_n hx hb dX7_firstOf_33 rfl (lv_at hl 0 rfl) ?_
        refine x_gR (q := (RX7, TX7, 50)) (j := 41) G C h rfl (by decide) (fun _ _ _ => rfl) (lk C q1097) (fun _ z => z) dX7_firstOf_34 hf (fun r8 hf => ?_)
        refine lv_iload_n hx hb dX7_firstOf_37 rfl (lv_at hl 2 rfl) ?_
        refine x_iald G C h dX7_firstOf_38 hf (fun x9 hf => ?_)
        refine lv_icmp_ge (tgt := 46) hx hb dX7_firstOf_39 (by decide) (fun hc => ?_) (fun hc => ?_)
        · have hf := hf_t hc hf
          exact hj46 () hf _ _ _ h (lv_sub hl [0, 1, 2, 3] rfl)
        · have hf := hf_f hc hf
          exact hj42 () hf _ _ _ h (lv_sub hl [0, 1, 2, 3] rfl)

theorem dX7_whose_0 : decode cX7_whose 0 = .ok (.iload_n 1, 1) := by decide +kernel
theorem dX7_whose_1 : decode cX7_whose 1 = .ok (.iconst 0, 1) := by decide +kernel
theorem dX7_whose_2 : decode cX7_whose 2 = .ok (.bipush 15, 2) := by decide +kernel
theorem dX7_whose_4 : decode cX7_whose 4 = .ok (.invokestatic 113, 3) := by decide +kernel
theorem dX7_whose_7 : decode cX7_whose 7 = .ok (.ifCond .ne 6, 3) := by decide +kernel
theorem dX7_whose_10 : decode cX7_whose 10 = .ok (.bipush (-3), 2) := by decide +kernel
theorem dX7_whose_12 : decode cX7_whose 12 = .ok (.ireturn, 1) := by decide +kernel
theorem dX7_whose_13 : decode cX7_whose 13 = .ok (.aload_n 0, 1) := by decide +kernel
theorem dX7_whose_14 : decode cX7_whose 14 = .ok (.iload_n 1, 1) := by decide +kernel
theorem dX7_whose_15 : decode cX7_whose 15 = .ok (.invokevirtual 301, 3) := by decide +kernel
theorem dX7_whose_18 : decode cX7_whose 18 = .ok (.istore_n 2, 1) := by decide +kernel
theorem dX7_whose_19 : decode cX7_whose 19 = .ok (.iload_n 2, 1) := by decide +kernel
theorem dX7_whose_20 : decode cX7_whose 20 = .ok (.iconst (-1), 1) := by decide +kernel
theorem dX7_whose_21 : decode cX7_whose 21 = .ok (.if_icmp .ne 7, 3) := by decide +kernel
theorem dX7_whose_24 : decode cX7_whose 24 = .ok (.iconst (-1), 1) := by decide +kernel
theorem dX7_whose_25 : decode cX7_whose 25 = .ok (.goto 9, 3) := by decide +kernel
theorem dX7_whose_28 : decode cX7_whose 28 = .ok (.aload_n 0, 1) := by decide +kernel
theorem dX7_whose_29 : decode cX7_whose 29 = .ok (.getfield 89, 3) := by decide +kernel
theorem dX7_whose_32 : decode cX7_whose 32 = .ok (.iload_n 2, 1) := by decide +kernel
theorem dX7_whose_33 : decode cX7_whose 33 = .ok (.iaload, 1) := by decide +kernel
theorem dX7_whose_34 : decode cX7_whose 34 = .ok (.ireturn, 1) := by decide +kernel
def fX7_whose (σ : St) (a0 : Nat) (a1 : Int32) : Option (Int32) :=
  (fX7_in σ a1 0 15).bind fun x1 =>
  if x1 = 0 then
    some ((-3))
  else
  o_k σ a0 5 <|
  (fX7_firstOf σ a0 a1).bind fun x2 =>
  if x2 = ((-1)) then
    some ((-1))
  else
  o_gR σ a0 5 40 fun r3 =>
  o_aI σ r3 0 x2 fun x4 =>
  some x4

set_option maxHeartbeats 4000000 in
theorem wX7_whose {l : Launch} {s0 : State} {A0 : Array Value} {D : va_G} {ac : Nat → ClassId} (G : Gl s0 A0 D ac) {σ : St} {a0 : Nat} {a1 : Int32} {v : Int32} (hf : fX7_whose σ a0 a1 = some (v)) : Met l yX7_whose (ws_ yX7_whose cX7_whose 3 (some (.int))) ({ frames := 1, cells := 0, slots := 0, locals := 23 } : Room) (Pn s0 D ac [.ref a0, .int a1] σ) (Qn s0 D ac (some (.int v)) σ) 0 0 (fr s0) := by
  refine x_met (by decide) (Nat.le_of_ble_eq_true rfl) ?_
  intro p e s m args below meth c ls C hnm h hl
  have C : Cx s0 p s m args meth c cX7_whose 3 "HutForShowModel" (some (.int)) := C
  have hx := C.1
  have hb := C.2.1
  have hl : lv_has ls 3 [(0, .ref a0), (1, .int a1)] := hl
  unfold fX7_whose at hf
  refine lv_iload_n hx hb dX7_whose_0 rfl (lv_at hl 1 rfl) ?_
  refine lv_iconst (v := 0) hx hb dX7_whose_1 (by decide) ?_
  refine lv_bipush (v := 15) hx hb dX7_whose_2 (by decide) ?_
  obtain ⟨x1, hc, hf⟩ := hf_b hf
  refine x_cS (rest := []) (As := [.int a1, .int 0, .int 15]) (n := 3) (ov := (some (.int x1))) C h (wX7_in G hc) (lw_S q1211 q1212 q61 q1213) (by decide +kernel) ⟨Nat.le_of_ble_eq_true rfl, Nat.le_of_ble_eq_true rfl⟩ rfl rfl rfl hl.1 rfl (Nat.le_of_ble_eq_true rfl) dX7_whose_4 ⟨(Nat.le_of_ble_eq_true rfl), (Nat.le_of_ble_eq_true rfl)⟩ (fun H locs h => ?_)
  refine lv_if_ne (tgt := 13) hx hb dX7_whose_7 (by decide) (fun hc => ?_) (fun hc => ?_)
  · have hf := hf_f hc hf
    refine lv_aload_n hx hb dX7_whose_13 rfl (lv_at hl 0 rfl) ?_
    refine lv_iload_n hx hb dX7_whose_14 rfl (lv_at hl 1 rfl) ?_
    obtain ⟨hk, hf⟩ := k_of hf
    obtain ⟨x2, hc, hf⟩ := hf_b hf
    refine x_cV (q := (RX7, TX7, 50)) (rest := []) (As := [.int a1]) (n := 1) (ov := (some (.int x2))) G C h (wX7_firstOf G hc) hk rfl (lw_V q1436 q1438 qs46 q61 q1439) (by decide +kernel) ⟨Nat.le_of_ble_eq_true rfl, Nat.le_of_ble_eq_true rfl⟩ rfl rfl rfl hl.1 rfl (Nat.le_of_ble_eq_true rfl) dX7_whose_15 ⟨(Nat.le_of_ble_eq_true rfl), (Nat.le_of_ble_eq_true rfl)⟩ (fun H locs h => ?_)
    refine lv_istore_n (lv' := [(2, .int x2), (0, .ref a0), (1, .int a1)]) hx hb dX7_whose_18 rfl hl (by decide) rfl (fun ls hl => ?_)
    refine lv_iload_n hx hb dX7_whose_19 rfl (lv_at hl 0 rfl) ?_
    refine lv_iconst (v := (-1)) hx hb dX7_whose_20 (by decide) ?_
    refine lv_icmp_ne (tgt := 28) hx hb dX7_whose_21 (by decide) (fun hc => ?_) (fun hc => ?_)
    · have hf := hf_f hc hf
      refine lv_aload_n hx hb dX7_whose_28 rfl (lv_at hl 1 rfl) ?_
      refine x_gR (q := (RX7, TX7, 50)) (j := 40) G C h rfl (by decide) (fun _ _ _ => rfl) (lk C q1096) (fun _ z => z) dX7_whose_29 hf (fun r3 hf => ?_)
      refine lv_iload_n hx hb dX7_whose_32 rfl (lv_at hl 0 rfl) ?_
      refine x_iald G C h dX7_whose_33 hf (fun x4 hf => ?_)
      cases hf
      refine W.widen (k := 0) (n := 0) (Nat.le_of_ble_eq_true rfl) (Nat.le_of_ble_eq_true rfl) ?_
      exact x_iret C h dX7_whose_34
    · have hf := hf_t hc hf
      refine lv_iconst (v := (-1)) hx hb dX7_whose_24 (by decide) ?_
      refine lv_goto (tgt := 34) hx hb dX7_whose_25 (by decide) ?_
      cases hf
      refine W.widen (k := 0) (n := 0) (Nat.le_of_ble_eq_true rfl) (Nat.le_of_ble_eq_true rfl) ?_
      exact x_iret C h dX7_whose_34
  · have hf := hf_t hc hf
    refine lv_bipush (v := (-3)) hx hb dX7_whose_10 (by decide) ?_
    cases hf
    refine W.widen (k := 0) (n := 0) (Nat.le_of_ble_eq_true rfl) (Nat.le_of_ble_eq_true rfl) ?_
    exact x_iret C h dX7_whose_12

theorem dX7_thieves_0 : decode cX7_thieves 0 = .ok (.aload_n 0, 1) := by decide +kernel
theorem dX7_thieves_1 : decode cX7_thieves 1 = .ok (.iload_n 1, 1) := by decide +kernel
theorem dX7_thieves_2 : decode cX7_thieves 2 = .ok (.invokevirtual 121, 3) := by decide +kernel
theorem dX7_thieves_5 : decode cX7_thieves 5 = .ok (.ifCond .ne 6, 3) := by decide +kernel
theorem dX7_thieves_8 : decode cX7_thieves 8 = .ok (.bipush (-2), 2) := by decide +kernel
theorem dX7_thieves_10 : decode cX7_thieves 10 = .ok (.ireturn, 1) := by decide +kernel
theorem dX7_thieves_11 : decode cX7_thieves 11 = .ok (.iconst 0, 1) := by decide +kernel
theorem dX7_thieves_12 : decode cX7_thieves 12 = .ok (.istore_n 2, 1) := by decide +kernel
theorem dX7_thieves_13 : decode cX7_thieves 13 = .ok (.iconst 0, 1) := by decide +kernel
theorem dX7_thieves_14 : decode cX7_thieves 14 = .ok (.istore_n 3, 1) := by decide +kernel
theorem dX7_thieves_15 : decode cX7_thieves 15 = .ok (.iload_n 3, 1) := by decide +kernel
theorem dX7_thieves_16 : decode cX7_thieves 16 = .ok (.aload_n 0, 1) := by decide +kernel
theorem dX7_thieves_17 : decode cX7_thieves 17 = .ok (.getfield 298, 3) := by decide +kernel
theorem dX7_thieves_20 : decode cX7_thieves 20 = .ok (.if_icmp .ge 85, 3) := by decide +kernel
theorem dX7_thieves_23 : decode cX7_thieves 23 = .ok (.aload_n 0, 1) := by decide +kernel
theorem dX7_thieves_24 : decode cX7_thieves 24 = .ok (.aload_n 0, 1) := by decide +kernel
theorem dX7_thieves_25 : decode cX7_thieves 25 = .ok (.getfield 86, 3) := by decide +kernel
theorem dX7_thieves_28 : decode cX7_thieves 28 = .ok (.iload_n 3, 1) := by decide +kernel
theorem dX7_thieves_29 : decode cX7_thieves 29 = .ok (.iaload, 1) := by decide +kernel
theorem dX7_thieves_30 : decode cX7_thieves 30 = .ok (.invokevirtual 301, 3) := by decide +kernel
theorem dX7_thieves_33 : decode cX7_thieves 33 = .ok (.istore 4, 2) := by decide +kernel
theorem dX7_thieves_35 : decode cX7_thieves 35 = .ok (.aload_n 0, 1) := by decide +kernel
theorem dX7_thieves_36 : decode cX7_thieves 36 = .ok (.getfield 89, 3) := by decide +kernel
theorem dX7_thieves_39 : decode cX7_thieves 39 = .ok (.iload 4, 2) := by decide +kernel
theorem dX7_thieves_41 : decode cX7_thieves 41 = .ok (.iaload, 1) := by decide +kernel
theorem dX7_thieves_42 : decode cX7_thieves 42 = .ok (.iload_n 1, 1) := by decide +kernel
theorem dX7_thieves_43 : decode cX7_thieves 43 = .ok (.if_icmp .ne 33, 3) := by decide +kernel
theorem dX7_thieves_46 : decode cX7_thieves 46 = .ok (.aload_n 0, 1) := by decide +kernel
theorem dX7_thieves_47 : decode cX7_thieves 47 = .ok (.getfield 89, 3) := by decide +kernel
theorem dX7_thieves_50 : decode cX7_thieves 50 = .ok (.iload_n 3, 1) := by decide +kernel
theorem dX7_thieves_51 : decode cX7_thieves 51 = .ok (.iaload, 1) := by decide +kernel
theorem dX7_thieves_52 : decode cX7_thieves 52 = .ok (.iload_n 1, 1) := by decide +kernel
theorem dX7_thieves_53 : decode cX7_thieves 53 = .ok (.if_icmp .eq 23, 3) := by decide +kernel
theorem dX7_thieves_56 : decode cX7_thieves 56 = .ok (.aload_n 0, 1) := by decide +kernel
theorem dX7_thieves_57 : decode cX7_thieves 57 = .ok (.getfield 92, 3) := by decide +kernel
theorem dX7_thieves_60 : decode cX7_thieves 60 = .ok (.iload_n 3, 1) := by decide +kernel
theorem dX7_thieves_61 : decode cX7_thieves 61 = .ok (.iaload, 1) := by decide +kernel
theorem dX7_thieves_62 : decode cX7_thieves 62 = .ok (.aload_n 0, 1) := by decide +kernel
theorem dX7_thieves_63 : decode cX7_thieves 63 = .ok (.getfield 92, 3) := by decide +kernel
theorem dX7_thieves_66 : decode cX7_thieves 66 = .ok (.iload 4, 2) := by decide +kernel
theorem dX7_thieves_68 : decode cX7_thieves 68 = .ok (.iaload, 1) := by decide +kernel
theorem dX7_thieves_69 : decode cX7_thieves 69 = .ok (.if_icmp .le 7, 3) := by decide +kernel
theorem dX7_thieves_72 : decode cX7_thieves 72 = .ok (.iconst 1, 1) := by decide +kernel
theorem dX7_thieves_73 : decode cX7_thieves 73 = .ok (.goto 4, 3) := by decide +kernel
theorem dX7_thieves_76 : decode cX7_thieves 76 = .ok (.iconst 0, 1) := by decide +kernel
theorem dX7_thieves_77 : decode cX7_thieves 77 = .ok (.istore 5, 2) := by decide +kernel
theorem dX7_thieves_79 : decode cX7_thieves 79 = .ok (.iload_n 2, 1) := by decide +kernel
theorem dX7_thieves_80 : decode cX7_thieves 80 = .ok (.iload 5, 2) := by decide +kernel
theorem dX7_thieves_82 : decode cX7_thieves 82 = .ok (.ifCond .eq 14, 3) := by decide +kernel
theorem dX7_thieves_85 : decode cX7_thieves 85 = .ok (.iconst 1, 1) := by decide +kernel
theorem dX7_thieves_86 : decode cX7_thieves 86 = .ok (.aload_n 0, 1) := by decide +kernel
theorem dX7_thieves_87 : decode cX7_thieves 87 = .ok (.getfield 89, 3) := by decide +kernel
theorem dX7_thieves_90 : decode cX7_thieves 90 = .ok (.iload_n 3, 1) := by decide +kernel
theorem dX7_thieves_91 : decode cX7_thieves 91 = .ok (.iaload, 1) := by decide +kernel
theorem dX7_thieves_92 : decode cX7_thieves 92 = .ok (.ishl, 1) := by decide +kernel
theorem dX7_thieves_93 : decode cX7_thieves 93 = .ok (.goto 4, 3) := by decide +kernel
theorem dX7_thieves_96 : decode cX7_thieves 96 = .ok (.iconst 0, 1) := by decide +kernel
theorem dX7_thieves_97 : decode cX7_thieves 97 = .ok (.ior, 1) := by decide +kernel
theorem dX7_thieves_98 : decode cX7_thieves 98 = .ok (.istore_n 2, 1) := by decide +kernel
theorem dX7_thieves_99 : decode cX7_thieves 99 = .ok (.iinc 3 1, 3) := by decide +kernel
theorem dX7_thieves_102 : decode cX7_thieves 102 = .ok (.goto (-87), 3) := by decide +kernel
theorem dX7_thieves_105 : decode cX7_thieves 105 = .ok (.iload_n 2, 1) := by decide +kernel
theorem dX7_thieves_106 : decode cX7_thieves 106 = .ok (.ireturn, 1) := by decide +kernel
def lX7_thieves_15 (σ : St) (a0 : Nat) (a1 : Int32) (x2 : Int32) (x3 : Int32) : Option ((Int32 × Int32) ⊕ (Int32)) :=
  o_gI σ a0 5 38 fun x4 =>
  if x4 ≤ x3 then
    some (.inr x2)
  else
  o_gR σ a0 5 39 fun r5 =>
  o_aI σ r5 0 x3 fun x6 =>
  o_k σ a0 5 <|
  (fX7_firstOf σ a0 x6).bind fun x7 =>
  o_gR σ a0 5 40 fun r8 =>
  o_aI σ r8 0 x7 fun x9 =>
  jn (fun (x16 : Int32) =>
    jn (fun (x19 : Int32) =>
      some (.inl (x2 ||| x19, x3 + 1))) fun j97 =>
    if x16 = 0 then
      j97 0
    else
    o_gR σ a0 5 40 fun r17 =>
    o_aI σ r17 0 x3 fun x18 =>
    j97 (1 <<< (x18 &&& 31))) fun j77 =>
  jn (fun (_ : Unit) =>
    j77 0) fun j76 =>
  if x9 = a1 then
    o_gR σ a0 5 40 fun r10 =>
    o_aI σ r10 0 x3 fun x11 =>
    if x11 = a1 then
      j76 ()
    else
    o_gR σ a0 5 41 fun r12 =>
    o_aI σ r12 0 x3 fun x13 =>
    o_gR σ a0 5 41 fun r14 =>
    o_aI σ r14 0 x7 fun x15 =>
    if x13 ≤ x15 then
      j76 ()
    else
    j77 1
  else
  j76 ()

def fX7_thieves (σ : St) (a0 : Nat) (a1 : Int32) : Option (Int32) :=
  o_k σ a0 5 <|
  (fX7_isHut σ a0 a1).bind fun x1 =>
  if x1 = 0 then
    some ((-2))
  else
  (loopF fuel (fun z => lX7_thieves_15 σ a0 a1 z.1 z.2) (0, 0)).bind <| fun x20 =>
  some x20

set_option maxHeartbeats 4000000 in
theorem wX7_thieves {l : Launch} {s0 : State} {A0 : Array Value} {D : va_G} {ac : Nat → ClassId} (G : Gl s0 A0 D ac) {σ : St} {a0 : Nat} {a1 : Int32} {v : Int32} (hf : fX7_thieves σ a0 a1 = some (v)) : Met l yX7_thieves (ws_ yX7_thieves cX7_thieves 6 (some (.int))) ({ frames := 2, cells := 0, slots := 0, locals := 43 } : Room) (Pn s0 D ac [.ref a0, .int a1] σ) (Qn s0 D ac (some (.int v)) σ) 0 0 (fr s0) := by
  refine x_met (by decide) (Nat.le_of_ble_eq_true rfl) ?_
  intro p e s m args below meth c ls C hnm h hl
  have C : Cx s0 p s m args meth c cX7_thieves 6 "HutForShowModel" (some (.int)) := C
  have hx := C.1
  have hb := C.2.1
  have hl : lv_has ls 6 [(0, .ref a0), (1, .int a1)] := hl
  unfold fX7_thieves at hf
  refine lv_aload_n hx hb dX7_thieves_0 rfl (lv_at hl 0 rfl) ?_
  refine lv_iload_n hx hb dX7_thieves_1 rfl (lv_at hl 1 rfl) ?_
  obtain ⟨hk, hf⟩ := k_of hf
  obtain ⟨x1, hc, hf⟩ := hf_b hf
  refine x_cV (q := (RX7, TX7, 50)) (rest := []) (As := [.int a1]) (n := 1) (ov := (some (.int x1))) G C h (wX7_isHut G hc) hk rfl (lw_V q1218 q1220 qs22 q61 q1221) (by decide +kernel) ⟨Nat.le_of_ble_eq_true rfl, Nat.le_of_ble_eq_true rfl⟩ rfl rfl rfl hl.1 rfl (Nat.le_of_ble_eq_true rfl) dX7_thieves_2 ⟨(Nat.le_of_ble_eq_true rfl), (Nat.le_of_ble_eq_true rfl)⟩ (fun H locs h => ?_)
  refine lv_if_ne (tgt := 11) hx hb dX7_thieves_5 (by decide) (fun hc => ?_) (fun hc => ?_)
  · have hf := hf_f hc hf
    refine lv_iconst (v := 0) hx hb dX7_thieves_11 (by decide) ?_
    refine lv_istore_n (lv' := [(2, .int 0), (0, .ref a0), (1, .int a1)]) hx hb dX7_thieves_12 rfl hl (by decide) rfl (fun ls hl => ?_)
    refine lv_iconst (v := 0) hx hb dX7_thieves_13 (by decide) ?_
    refine lv_istore_n (lv' := [(3, .int 0), (2, .int 0), (0, .ref a0), (1, .int a1)]) hx hb dX7_thieves_14 rfl hl (by decide) rfl (fun ls hl => ?_)
    obtain ⟨e15, hL, hK⟩ := hf_b hf
    have hE15_0 : ∀ (x20 : Int32), x20 = e15 → ∀  (H : Heap) (locs : List Loc) (ls : Array Slot), Hs s0 D ac σ H locs → lv_has ls 6 [(0, .ref a0), (1, .int a1), (2, .int x20)] → W p l e ({ frames := 2, cells := 0, slots := 0, locals := 43 } : Room) s m args below meth c H locs 0 0 (MQ below (Qn s0 D ac (some (.int v)) σ) args s 0 0 (fr s0)) (F0 m 105 ls []) := by
      intro x20 he H locs ls h hl
      subst he
      have hf := hK
      refine lv_iload_n hx hb dX7_thieves_105 rfl (lv_at hl 2 rfl) ?_
      cases hf
      refine W.widen (k := 0) (n := 0) (Nat.le_of_ble_eq_true rfl) (Nat.le_of_ble_eq_true rfl) ?_
      exact x_iret C h dX7_thieves_106
    refine loopF_ind (P := fun z => ∀ (H : Heap) (locs : List Loc) (ls : Array Slot), Hs s0 D ac σ H locs → lv_has ls 6 [(0, .ref a0), (1, .int a1), (2, .int z.1), (3, .int z.2)] → W p l e ({ frames := 2, cells := 0, slots := 0, locals := 43 } : Room) s m args below meth c H locs 0 0 (MQ below (Qn s0 D ac (some (.int v)) σ) args s 0 0 (fr s0)) (F0 m 15 ls [])) ?_ _ _ hL _ _ _ h (lv_sub hl [2, 3, 1, 0] rfl)
    clear hK hL h hl hf
    intro z o hf ih hX H locs ls h hl
    obtain ⟨x2, x3⟩ := z
    have h : Hs s0 D ac σ H locs := h
    have hl : lv_has ls 6 [(0, .ref a0), (1, .int a1), (2, .int x2), (3, .int x3)] := hl
    have hf : lX7_thieves_15 σ a0 a1 x2 x3 = some o := hf
    unfold lX7_thieves_15 at hf
    refine lv_iload_n hx hb dX7_thieves_15 rfl (lv_at hl 3 rfl) ?_
    refine lv_aload_n hx hb dX7_thieves_16 rfl (lv_at hl 0 rfl) ?_
    refine x_gI (q := (RX7, TX7, 50)) (j := 38) G C h rfl (by decide) (fun _ _ _ => rfl) (lk C q1094) (fun _ z => z) dX7_thieves_17 hf (fun x4 hf => ?_)
    refine lv_icmp_ge (tgt := 105) hx hb dX7_thieves_20 (by decide) (fun hc => ?_) (fun hc => ?_)
    · have hf := hf_t hc hf
      cases hf
      exact hE15_0 _ (hX _ rfl) _ _ _ h (lv_sub hl [0, 1, 2] rfl)
    · have hf := hf_f hc hf
      refine lv_aload_n hx hb dX7_thieves_23 rfl (lv_at hl 0 rfl) ?_
      refine lv_aload_n hx hb dX7_thieves_24 rfl (lv_at hl 0 rfl) ?_
      refine x_gR (q := (RX7, TX7, 50)) (j := 39) G C h rfl (by decide) (fun _ _ _ => rfl) (lk C q1095) (fun _ z => z) dX7_thieves_25 hf (fun r5 hf => ?_)
      refine lv_iload_n hx hb dX7_thieves_28 rfl (lv_at hl 3 rfl) ?_
      refine x_iald G C h dX7_thieves_29 hf (fun x6 hf => ?_)
      obtain ⟨hk, hf⟩ := k_of hf
      obtain ⟨x7, hc, hf⟩ := hf_b hf
      refine x_cV (q := (RX7, TX7, 50)) (rest := []) (As := [.int x6]) (n := 1) (ov := (some (.int x7))) G C h (wX7_firstOf G hc) hk rfl (lw_V q1436 q1438 qs46 q61 q1439) (by decide +kernel) ⟨Nat.le_of_ble_eq_true rfl, Nat.le_of_ble_eq_true rfl⟩ rfl rfl rfl hl.1 rfl (Nat.le_of_ble_eq_true rfl) dX7_thieves_30 ⟨(Nat.le_of_ble_eq_true rfl), (Nat.le_of_ble_eq_true rfl)⟩ (fun H locs h => ?_)
      refine lv_istore (lv' := [(4, .int x7), (0, .ref a0), (1, .int a1), (2, .int x2), (3, .int x3)]) hx hb dX7_thieves_33 hl (by decide) rfl (fun ls hl => ?_)
      refine lv_aload_n hx hb dX7_thieves_35 rfl (lv_at hl 1 rfl) ?_
      refine x_gR (q := (RX7, TX7, 50)) (j := 40) G C h rfl (by decide) (fun _ _ _ => rfl) (lk C q1096) (fun _ z => z) dX7_thieves_36 hf (fun r8 hf => ?_)
      refine lv_iload hx hb dX7_thieves_39 (lv_at hl 0 rfl) ?_
      refine x_iald G C h dX7_thieves_41 hf (fun x9 hf => ?_)
      refine lv_iload_n hx hb dX7_thieves_42 rfl (lv_at hl 2 rfl) ?_
      refine jn_of (P := fun j => ∀ (x16 : Int32), j x16 = some o → ∀ (H : Heap) (locs : List Loc) (ls : Array Slot), Hs s0 D ac σ H locs → lv_has ls 6 [(0, .ref a0), (1, .int a1), (2, .int x2), (3, .int x3), (4, .int x7)] → W p l e ({ frames := 2, cells := 0, slots := 0, locals := 43 } : Room) s m args below meth c H locs 0 0 (MQ below (Qn s0 D ac (some (.int v)) σ) args s 0 0 (fr s0)) (F0 m 77 ls [.int x16])) hf ?_ ?_
      · intro x16 hf H locs ls h hl
        refine lv_istore (lv' := [(5, .int x16), (0, .ref a0), (1, .int a1), (2, .int x2), (3, .int x3), (4, .int x7)]) hx hb dX7_thieves_77 hl (by decide) rfl (fun ls hl => ?_)
        refine lv_iload_n hx hb dX7_thieves_79 rfl (lv_at hl 3 rfl) ?_
        refine lv_iload hx hb dX7_thieves_80 (lv_at hl 0 rfl) ?_
        refine jn_of (P := fun j => ∀ (x19 : Int32), j x19 = some o → ∀ (H : Heap) (locs : List Loc) (ls : Array Slot), Hs s0 D ac σ H locs → lv_has ls 6 [(0, .ref a0), (1, .int a1), (2, .int x2), (3, .int x3), (4, .int x7), (5, .int x16)] → W p l e ({ frames := 2, cells := 0, slots := 0, locals := 43 } : Room) s m args below meth c H locs 0 0 (MQ below (Qn s0 D ac (some (.int v)) σ) args s 0 0 (fr s0)) (F0 m 97 ls [.int x19, .int x2])) hf ?_ ?_
        · intro x19 hf H locs ls h hl
          refine lv_ior hx hb dX7_thieves_97 ?_
          refine lv_istore_n (lv' := [(2, .int (x2 ||| x19)), (0, .ref a0), (1, .int a1), (3, .int x3), (4, .int x7), (5, .int x16)]) hx hb dX7_thieves_98 rfl hl (by decide) rfl (fun ls hl => ?_)
          refine lv_iinc (v := x3 + 1) (lv' := [(3, .int (x3 + 1)), (2, .int (x2 ||| x19)), (0, .ref a0), (1, .int a1), (4, .int x7), (5, .int x16)]) hx hb dX7_thieves_99 hl (k := 3) rfl rfl (by decide) rfl (fun ls hl => ?_)
          refine lv_goto (tgt := 15) hx hb dX7_thieves_102 (by decide) ?_
          cases hf
          exact ih _ rfl _ _ _ h (lv_sub hl [2, 3, 1, 0] rfl)
        intro j97 hj97 hf
        refine lv_if_eq (tgt := 96) hx hb dX7_thieves_82 (by decide) (fun hc => ?_) (fun hc => ?_)
        · have hf := hf_t hc hf
          refine lv_iconst (v := 0) hx hb dX7_thieves_96 (by decide) ?_
          exact hj97 _ hf _ _ _ h (lv_sub hl [1, 2, 3, 4, 5, 0] rfl)
        · have hf := hf_f hc hf
          refine lv_iconst (v := 1) hx hb dX7_thieves_85 (by decide) ?_
          refine lv_aload_n hx hb dX7_thieves_86 rfl (lv_at hl 1 rfl) ?_
          refine x_gR (q := (RX7, TX7, 50)) (j := 40) G C h rfl (by decide) (fun _ _ _ => rfl) (lk C q1096) (fun _ z => z) dX7_thieves_87 hf (fun r17 hf => ?_)
          refine lv_iload_n hx hb dX7_thieves_90 rfl (lv_at hl 4 rfl) ?_
          refine x_iald G C h dX7_thieves_91 hf (fun x18 hf => ?_)
          refine lv_ishl hx hb dX7_thieves_92 ?_
          refine lv_goto (tgt := 97) hx hb dX7_thieves_93 (by decide) ?_
          exact hj97 _ hf _ _ _ h (lv_sub hl [1, 2, 3, 4, 5, 0] rfl)
      intro j77 hj77 hf
      refine jn_of (P := fun j => ∀ (u0 : Unit), j u0 = some o → ∀ (H : Heap) (locs : List Loc) (ls : Array Slot), Hs s0 D ac σ H locs → lv_has ls 6 [(0, .ref a0), (1, .int a1), (2, .int x2), (3, .int x3), (4, .int x7)] → W p l e ({ frames := 2, cells := 0, slots := 0, locals := 43 } : Room) s m args below meth c H locs 0 0 (MQ below (Qn s0 D ac (some (.int v)) σ) args s 0 0 (fr s0)) (F0 m 76 ls [])) hf ?_ ?_
      · intro u0 hf H locs ls h hl
        refine lv_iconst (v := 0) hx hb dX7_thieves_76 (by decide) ?_
        exact hj77 _ hf _ _ _ h (lv_sub hl [0, 1, 2, 3, 4] rfl)
      intro j76 hj76 hf
      refine lv_icmp_ne (tgt := 76) hx hb dX7_thieves_43 (by decide) (fun hc => ?_) (fun hc => ?_)
      · have hf := hf_f hc hf
        exact hj76 () hf _ _ _ h (lv_sub hl [1, 2, 3, 4, 0] rfl)
      · have hf := hf_t hc hf
        refine lv_aload_n hx hb dX7_thieves_46 rfl (lv_at hl 1 rfl) ?_
        refine x_gR (q := (RX7, TX7, 50)) (j := 40) G C h rfl (by decide) (fun _ _ _ => rfl) (lk C q1096) (fun _ z => z) dX7_thieves_47 hf (fun r10 hf => ?_)
        refine lv_iload_n hx hb dX7_thieves_50 rfl (lv_at hl 4 rfl) ?_
        refine x_iald G C h dX7_thieves_51 hf (fun x11 hf => ?_)
        refine lv_iload_n hx hb dX7_thieves_52 rfl (lv_at hl 2 rfl) ?_
        refine lv_icmp_eq (tgt := 76) hx hb dX7_thieves_53 (by decide) (fun hc => ?_) (fun hc => ?_)
        · have hf := hf_t hc hf
          exact hj76 () hf _ _ _ h (lv_sub hl [1, 2, 3, 4, 0] rfl)
        · have hf := hf_f hc hf
          refine lv_aload_n hx hb dX7_thieves_56 rfl (lv_at hl 1 rfl) ?_
          refine x_gR (q := (RX7, TX7, 50)) (j := 41) G C h rfl (by decide) (fun _ _ _ => rfl) (lk C q1097) (fun _ z => z) dX7_thieves_57 hf (fun r12 hf => ?_)
          refine lv_iload_n hx hb dX7_thieves_60 rfl (lv_at hl 4 rfl) ?_
          refine x_iald G C h dX7_thieves_61 hf (fun x13 hf => ?_)
          refine lv_aload_n hx hb dX7_thieves_62 rfl (lv_at hl 1 rfl) ?_
          refine x_gR (q := (RX7, TX7, 50)) (j := 41) G C h rfl (by decide) (fun _ _ _ => rfl) (lk C q1097) (fun _ z => z) dX7_thieves_63 hf (fun r14 hf => ?_)
          refine lv_iload hx hb dX7_thieves_66 (lv_at hl 0 rfl) ?_
          refine x_iald G C h dX7_thieves_68 hf (fun x15 hf => ?_)
          refine lv_icmp_le (tgt := 76) hx hb dX7_thieves_69 (by decide) (fun hc => ?_) (fun hc => ?_)
          · have hf := hf_t hc hf
            exact hj76 () hf _ _ _ h (lv_sub hl [1, 2, 3, 4, 0] rfl)
          · have hf := hf_f hc hf
            refine lv_iconst (v := 1) hx hb dX7_thieves_72 (by decide) ?_
            refine lv_goto (tgt := 77) hx hb dX7_thieves_73 (by decide) ?_
            exact hj77 _ hf _ _ _ h (lv_sub hl [1, 2, 3, 4, 0] rfl)
  · have hf := hf_t hc hf
    refine lv_bipush (v := (-2)) hx hb dX7_thieves_8 (by decide) ?_
    cases hf
    refine W.widen (k := 0) (n := 0) (Nat.le_of_ble_eq_true rfl) (Nat.le_of_ble_eq_true rfl) ?_
    exact x_iret C h dX7_thieves_10

theorem dX7_isSet_0 : decode cX7_isSet 0 = .ok (.iload_n 1, 1) := by decide +kernel
theorem dX7_isSet_1 : decode cX7_isSet 1 = .ok (.iconst 0, 1) := by decide +kernel
theorem dX7_isSet_2 : decode cX7_isSet 2 = .ok (.iconst 1, 1) := by decide +kernel
theorem dX7_isSet_3 : decode cX7_isSet 3 = .ok (.aload_n 0, 1) := by decide +kernel
theorem dX7_isSet_4 : decode cX7_isSet 4 = .ok (.getfield 110, 3) := by decide +kernel
theorem dX7_isSet_7 : decode cX7_isSet 7 = .ok (.ishl, 1) := by decide +kernel
theorem dX7_isSet_8 : decode cX7_isSet 8 = .ok (.iconst 1, 1) := by decide +kernel
theorem dX7_isSet_9 : decode cX7_isSet 9 = .ok (.isub, 1) := by decide +kernel
theorem dX7_isSet_10 : decode cX7_isSet 10 = .ok (.invokestatic 113, 3) := by decide +kernel
theorem dX7_isSet_13 : decode cX7_isSet 13 = .ok (.ireturn, 1) := by decide +kernel
def fX7_isSet (σ : St) (a0 : Nat) (a1 : Int32) : Option (Int32) :=
  o_gI σ a0 5 1 fun x1 =>
  (fX7_in σ a1 0 ((1 <<< (x1 &&& 31)) - 1)).bind fun x2 =>
  o_bz x2 <| some x2

set_option maxHeartbeats 4000000 in
theorem wX7_isSet {l : Launch} {s0 : State} {A0 : Array Value} {D : va_G} {ac : Nat → ClassId} (G : Gl s0 A0 D ac) {σ : St} {a0 : Nat} {a1 : Int32} {v : Int32} (hf : fX7_isSet σ a0 a1 = some (v)) : Met l yX7_isSet (ws_ yX7_isSet cX7_isSet 2 (some (.boolean))) ({ frames := 1, cells := 0, slots := 0, locals := 22 } : Room) (Pn s0 D ac [.ref a0, .int a1] σ) (Qn s0 D ac (some (.int v)) σ) 0 0 (fr s0) := by
  refine x_met (by decide) (Nat.le_of_ble_eq_true rfl) ?_
  intro p e s m args below meth c ls C hnm h hl
  have C : Cx s0 p s m args meth c cX7_isSet 2 "HutForShowModel" (some (.boolean)) := C
  have hx := C.1
  have hb := C.2.1
  have hl : lv_has ls 2 [(0, .ref a0), (1, .int a1)] := hl
  unfold fX7_isSet at hf
  refine lv_iload_n hx hb dX7_isSet_0 rfl (lv_at hl 1 rfl) ?_
  refine lv_iconst (v := 0) hx hb dX7_isSet_1 (by decide) ?_
  refine lv_iconst (v := 1) hx hb dX7_isSet_2 (by decide) ?_
  refine lv_aload_n hx hb dX7_isSet_3 rfl (lv_at hl 0 rfl) ?_
  refine x_gI (q := (RX7, TX7, 50)) (j := 1) G C h rfl (by decide) (fun _ _ _ => rfl) (lk C q1057) (fun _ z => z) dX7_isSet_4 hf (fun x1 hf => ?_)
  refine lv_ishl hx hb dX7_isSet_7 ?_
  refine lv_iconst (v := 1) hx hb dX7_isSet_8 (by decide) ?_
  refine lv_isub hx hb dX7_isSet_9 ?_
  obtain ⟨x2, hc, hf⟩ := hf_b hf
  refine x_cS (rest := []) (As := [.int a1, .int 0, .int ((1 <<< (x1 &&& 31)) - 1)]) (n := 3) (ov := (some (.int x2))) C h (wX7_in G hc) (lw_S q1211 q1212 q61 q1213) (by decide +kernel) ⟨Nat.le_of_ble_eq_true rfl, Nat.le_of_ble_eq_true rfl⟩ rfl rfl rfl hl.1 rfl (Nat.le_of_ble_eq_true rfl) dX7_isSet_10 ⟨(Nat.le_of_ble_eq_true rfl), (Nat.le_of_ble_eq_true rfl)⟩ (fun H locs h => ?_)
  obtain ⟨hz, hf⟩ := bz_of hf
  cases hf
  refine W.widen (k := 0) (n := 0) (Nat.le_of_ble_eq_true rfl) (Nat.le_of_ble_eq_true rfl) ?_
  exact x_zret C h hz dX7_isSet_13

theorem dX7_nearest_0 : decode cX7_nearest 0 = .ok (.iconst (-1), 1) := by decide +kernel
theorem dX7_nearest_1 : decode cX7_nearest 1 = .ok (.istore_n 2, 1) := by decide +kernel
theorem dX7_nearest_2 : decode cX7_nearest 2 = .ok (.iconst 0, 1) := by decide +kernel
theorem dX7_nearest_3 : decode cX7_nearest 3 = .ok (.istore_n 3, 1) := by decide +kernel
theorem dX7_nearest_4 : decode cX7_nearest 4 = .ok (.iload_n 3, 1) := by decide +kernel
theorem dX7_nearest_5 : decode cX7_nearest 5 = .ok (.aload_n 0, 1) := by decide +kernel
theorem dX7_nearest_6 : decode cX7_nearest 6 = .ok (.getfield 110, 3) := by decide +kernel
theorem dX7_nearest_9 : decode cX7_nearest 9 = .ok (.if_icmp .ge 40, 3) := by decide +kernel
theorem dX7_nearest_12 : decode cX7_nearest 12 = .ok (.iload_n 3, 1) := by decide +kernel
theorem dX7_nearest_13 : decode cX7_nearest 13 = .ok (.iload_n 1, 1) := by decide +kernel
theorem dX7_nearest_14 : decode cX7_nearest 14 = .ok (.if_icmp .eq 27, 3) := by decide +kernel
theorem dX7_nearest_17 : decode cX7_nearest 17 = .ok (.iload_n 2, 1) := by decide +kernel
theorem dX7_nearest_18 : decode cX7_nearest 18 = .ok (.iconst (-1), 1) := by decide +kernel
theorem dX7_nearest_19 : decode cX7_nearest 19 = .ok (.if_icmp .eq 18, 3) := by decide +kernel
theorem dX7_nearest_22 : decode cX7_nearest 22 = .ok (.aload_n 0, 1) := by decide +kernel
theorem dX7_nearest_23 : decode cX7_nearest 23 = .ok (.iload_n 1, 1) := by decide +kernel
theorem dX7_nearest_24 : decode cX7_nearest 24 = .ok (.iload_n 3, 1) := by decide +kernel
theorem dX7_nearest_25 : decode cX7_nearest 25 = .ok (.invokevirtual 125, 3) := by decide +kernel
theorem dX7_nearest_28 : decode cX7_nearest 28 = .ok (.aload_n 0, 1) := by decide +kernel
theorem dX7_nearest_29 : decode cX7_nearest 29 = .ok (.iload_n 1, 1) := by decide +kernel
theorem dX7_nearest_30 : decode cX7_nearest 30 = .ok (.iload_n 2, 1) := by decide +kernel
theorem dX7_nearest_31 : decode cX7_nearest 31 = .ok (.invokevirtual 125, 3) := by decide +kernel
theorem dX7_nearest_34 : decode cX7_nearest 34 = .ok (.if_icmp .ge 7, 3) := by decide +kernel
theorem dX7_nearest_37 : decode cX7_nearest 37 = .ok (.iload_n 3, 1) := by decide +kernel
theorem dX7_nearest_38 : decode cX7_nearest 38 = .ok (.goto 4, 3) := by decide +kernel
theorem dX7_nearest_41 : decode cX7_nearest 41 = .ok (.iload_n 2, 1) := by decide +kernel
theorem dX7_nearest_42 : decode cX7_nearest 42 = .ok (.istore_n 2, 1) := by decide +kernel
theorem dX7_nearest_43 : decode cX7_nearest 43 = .ok (.iinc 3 1, 3) := by decide +kernel
theorem dX7_nearest_46 : decode cX7_nearest 46 = .ok (.goto (-42), 3) := by decide +kernel
theorem dX7_nearest_49 : decode cX7_nearest 49 = .ok (.iload_n 2, 1) := by decide +kernel
theorem dX7_nearest_50 : decode cX7_nearest 50 = .ok (.ireturn, 1) := by decide +kernel
def lX7_nearest_4 (σ : St) (a0 : Nat) (a1 : Int32) (x1 : Int32) (x2 : Int32) : Option ((Int32 × Int32) ⊕ (Int32)) :=
  o_gI σ a0 5 1 fun x3 =>
  if x3 ≤ x2 then
    some (.inr x1)
  else
  jn (fun (x6 : Int32) =>
    some (.inl (x6, x2 + 1))) fun j42 =>
  jn (fun (_ : Unit) =>
    j42 x1) fun j41 =>
  if x2 = a1 then
    j41 ()
  else
  jn (fun (_ : Unit) =>
    j42 x2) fun j37 =>
  if x1 = ((-1)) then
    j37 ()
  else
  o_k σ a0 5 <|
  (fX7_farOf σ a0 a1 x2).bind fun x4 =>
  o_k σ a0 5 <|
  (fX7_farOf σ a0 a1 x1).bind fun x5 =>
  if x5 ≤ x4 then
    j41 ()
  else
  j37 ()

def fX7_nearest (σ : St) (a0 : Nat) (a1 : Int32) : Option (Int32) :=
  (loopF fuel (fun z => lX7_nearest_4 σ a0 a1 z.1 z.2) ((-1), 0)).bind <| fun x7 =>
  some x7

set_option maxHeartbeats 4000000 in
theorem wX7_nearest {l : Launch} {s0 : State} {A0 : Array Value} {D : va_G} {ac : Nat → ClassId} (G : Gl s0 A0 D ac) {σ : St} {a0 : Nat} {a1 : Int32} {v : Int32} (hf : fX7_nearest σ a0 a1 = some (v)) : Met l yX7_nearest (ws_ yX7_nearest cX7_nearest 4 (some (.int))) ({ frames := 2, cells := 0, slots := 0, locals := 42 } : Room) (Pn s0 D ac [.ref a0, .int a1] σ) (Qn s0 D ac (some (.int v)) σ) 0 0 (fr s0) := by
  refine x_met (by decide) (Nat.le_of_ble_eq_true rfl) ?_
  intro p e s m args below meth c ls C hnm h hl
  have C : Cx s0 p s m args meth c cX7_nearest 4 "HutForShowModel" (some (.int)) := C
  have hx := C.1
  have hb := C.2.1
  have hl : lv_has ls 4 [(0, .ref a0), (1, .int a1)] := hl
  unfold fX7_nearest at hf
  refine lv_iconst (v := (-1)) hx hb dX7_nearest_0 (by decide) ?_
  refine lv_istore_n (lv' := [(2, .int ((-1))), (0, .ref a0), (1, .int a1)]) hx hb dX7_nearest_1 rfl hl (by decide) rfl (fun ls hl => ?_)
  refine lv_iconst (v := 0) hx hb dX7_nearest_2 (by decide) ?_
  refine lv_istore_n (lv' := [(3, .int 0), (2, .int ((-1))), (0, .ref a0), (1, .int a1)]) hx hb dX7_nearest_3 rfl hl (by decide) rfl (fun ls hl => ?_)
  obtain ⟨e4, hL, hK⟩ := hf_b hf
  have hE4_0 : ∀ (x7 : Int32), x7 = e4 → ∀  (H : Heap) (locs : List Loc) (ls : Array Slot), Hs s0 D ac σ H locs → lv_has ls 4 [(0, .ref a0), (1, .int a1), (2, .int x7)] → W p l e ({ frames := 2, cells := 0, slots := 0, locals := 42 } : Room) s m args below meth c H locs 0 0 (MQ below (Qn s0 D ac (some (.int v)) σ) args s 0 0 (fr s0)) (F0 m 49 ls []) := by
    intro x7 he H locs ls h hl
    subst he
    have hf := hK
    refine lv_iload_n hx hb dX7_nearest_49 rfl (lv_at hl 2 rfl) ?_
    cases hf
    refine W.widen (k := 0) (n := 0) (Nat.le_of_ble_eq_true rfl) (Nat.le_of_ble_eq_true rfl) ?_
    exact x_iret C h dX7_nearest_50
  refine loopF_ind (P := fun z => ∀ (H : Heap) (locs : List Loc) (ls : Array Slot), Hs s0 D ac σ H locs → lv_has ls 4 [(0, .ref a0), (1, .int a1), (2, .int z.1), (3, .int z.2)] → W p l e ({ frames := 2, cells := 0, slots := 0, locals := 42 } : Room) s m args below meth c H locs 0 0 (MQ below (Qn s0 D ac (some (.int v)) σ) args s 0 0 (fr s0)) (F0 m 4 ls [])) ?_ _ _ hL _ _ _ h (lv_sub hl [2, 3, 1, 0] rfl)
  clear hK hL h hl hf
  intro z o hf ih hX H locs ls h hl
  obtain ⟨x1, x2⟩ := z
  have h : Hs s0 D ac σ H locs := h
  have hl : lv_has ls 4 [(0, .ref a0), (1, .int a1), (2, .int x1), (3, .int x2)] := hl
  have hf : lX7_nearest_4 σ a0 a1 x1 x2 = some o := hf
  unfold lX7_nearest_4 at hf
  refine lv_iload_n hx hb dX7_nearest_4 rfl (lv_at hl 3 rfl) ?_
  refine lv_aload_n hx hb dX7_nearest_5 rfl (lv_at hl 0 rfl) ?_
  refine x_gI (q := (RX7, TX7, 50)) (j := 1) G C h rfl (by decide) (fun _ _ _ => rfl) (lk C q1057) (fun _ z => z) dX7_nearest_6 hf (fun x3 hf => ?_)
  refine lv_icmp_ge (tgt := 49) hx hb dX7_nearest_9 (by decide) (fun hc => ?_) (fun hc => ?_)
  · have hf := hf_t hc hf
    cases hf
    exact hE4_0 _ (hX _ rfl) _ _ _ h (lv_sub hl [0, 1, 2] rfl)
  · have hf := hf_f hc hf
    refine lv_iload_n hx hb dX7_nearest_12 rfl (lv_at hl 3 rfl) ?_
    refine lv_iload_n hx hb dX7_nearest_13 rfl (lv_at hl 1 rfl) ?_
    refine jn_of (P := fun j => ∀ (x6 : Int32), j x6 = some o → ∀ (H : Heap) (locs : List Loc) (ls : Array Slot), Hs s0 D ac σ H locs → lv_has ls 4 [(0, .ref a0), (1, .int a1), (2, .int x1), (3, .int x2)] → W p l e ({ frames := 2, cells := 0, slots := 0, locals := 42 } : Room) s m args below meth c H locs 0 0 (MQ below (Qn s0 D ac (some (.int v)) σ) args s 0 0 (fr s0)) (F0 m 42 ls [.int x6])) hf ?_ ?_
    · intro x6 hf H locs ls h hl
      refine lv_istore_n (lv' := [(2, .int x6), (0, .ref a0), (1, .int a1), (3, .int x2)]) hx hb dX7_nearest_42 rfl hl (by decide) rfl (fun ls hl => ?_)
      refine lv_iinc (v := x2 + 1) (lv' := [(3, .int (x2 + 1)), (2, .int x6), (0, .ref a0), (1, .int a1)]) hx hb dX7_nearest_43 hl (k := 3) rfl rfl (by decide) rfl (fun ls hl => ?_)
      refine lv_goto (tgt := 4) hx hb dX7_nearest_46 (by decide) ?_
      cases hf
      exact ih _ rfl _ _ _ h (lv_sub hl [2, 3, 1, 0] rfl)
    intro j42 hj42 hf
    refine jn_of (P := fun j => ∀ (u0 : Unit), j u0 = some o → ∀ (H : Heap) (locs : List Loc) (ls : Array Slot), Hs s0 D ac σ H locs → lv_has ls 4 [(0, .ref a0), (1, .int a1), (2, .int x1), (3, .int x2)] → W p l e ({ frames := 2, cells := 0, slots := 0, locals := 42 } : Room) s m args below meth c H locs 0 0 (MQ below (Qn s0 D ac (some (.int v)) σ) args s 0 0 (fr s0)) (F0 m 41 ls [])) hf ?_ ?_
    · intro u0 hf H locs ls h hl
      refine lv_iload_n hx hb dX7_nearest_41 rfl (lv_at hl 2 rfl) ?_
      exact hj42 _ hf _ _ _ h (lv_sub hl [0, 1, 2, 3] rfl)
    intro j41 hj41 hf
    refine lv_icmp_eq (tgt := 41) hx hb dX7_nearest_14 (by decide) (fun hc => ?_) (fun hc => ?_)
    · have hf := hf_t hc hf
      exact hj41 () hf _ _ _ h (lv_sub hl [0, 1, 2, 3] rfl)
    · have hf := hf_f hc hf
      refine lv_iload_n hx hb dX7_nearest_17 rfl (lv_at hl 2 rfl) ?_
      refine lv_iconst (v := (-1)) hx hb dX7_nearest_18 (by decide) ?_
      refine jn_of (P := fun j => ∀ (u0 : Unit), j u0 = some o → ∀ (H : Heap) (locs : List Loc) (ls : Array Slot), Hs s0 D ac σ H locs → lv_has ls 4 [(0, .ref a0), (1, .int a1), (2, .int x1), (3, .int x2)] → W p l e ({ frames := 2, cells := 0, slots := 0, locals := 42 } : Room) s m args below meth c H locs 0 0 (MQ below (Qn s0 D ac (some (.int v)) σ) args s 0 0 (fr s0)) (F0 m 37 ls [])) hf ?_ ?_
      · intro u0 hf H locs ls h hl
        refine lv_iload_n hx hb dX7_nearest_37 rfl (lv_at hl 3 rfl) ?_
        refine lv_goto (tgt := 42) hx hb dX7_nearest_38 (by decide) ?_
        exact hj42 _ hf _ _ _ h (lv_sub hl [0, 1, 2, 3] rfl)
      intro j37 hj37 hf
      refine lv_icmp_eq (tgt := 37) hx hb dX7_nearest_19 (by decide) (fun hc => ?_) (fun hc => ?_)
      · have hf := hf_t hc hf
        exact hj37 () hf _ _ _ h (lv_sub hl [0, 1, 2, 3] rfl)
      · have hf := hf_f hc hf
        refine lv_aload_n hx hb dX7_nearest_22 rfl (lv_at hl 0 rfl) ?_
        refine lv_iload_n hx hb dX7_nearest_23 rfl (lv_at hl 1 rfl) ?_
        refine lv_iload_n hx hb dX7_nearest_24 rfl (lv_at hl 3 rfl) ?_
        obtain ⟨hk, hf⟩ := k_of hf
        obtain ⟨x4, hc, hf⟩ := hf_b hf
        refine x_cV (q := (RX7, TX7, 50)) (rest := []) (As := [.int a1, .int x2]) (n := 2) (ov := (some (.int x4))) G C h (wX7_farOf G hc) hk rfl (lw_V q1222 q1224 qs23 q61 q1225) (by decide +kernel) ⟨Nat.le_of_ble_eq_true rfl, Nat.le_of_ble_eq_true rfl⟩ rfl rfl rfl hl.1 rfl (Nat.le_of_ble_eq_true rfl) dX7_nearest_25 ⟨(Nat.le_of_ble_eq_true rfl), (Nat.le_of_ble_eq_true rfl)⟩ (fun H locs h => ?_)
        refine lv_aload_n hx hb dX7_nearest_28 rfl (lv_at hl 0 rfl) ?_
        refine lv_iload_n hx hb dX7_nearest_29 rfl (lv_at hl 1 rfl) ?_
        refine lv_iload_n hx hb dX7_nearest_30 rfl (lv_at hl 2 rfl) ?_
        obtain ⟨hk, hf⟩ := k_of hf
        obtain ⟨x5, hc, hf⟩ := hf_b hf
        refine x_cV (q := (RX7, TX7, 50)) (rest := [.int x4]) (As := [.int a1, .int x1]) (n := 2) (ov := (some (.int x5))) G C h (wX7_farOf G hc) hk rfl (lw_V q1222 q1224 qs23 q61 q1225) (by decide +kernel) ⟨Nat.le_of_ble_eq_true rfl, Nat.le_of_ble_eq_true rfl⟩ rfl rfl rfl hl.1 rfl (Nat.le_of_ble_eq_true rfl) dX7_nearest_31 ⟨(Nat.le_of_ble_eq_true rfl), (Nat.le_of_ble_eq_true rfl)⟩ (fun H locs h => ?_)
        refine lv_icmp_ge (tgt := 41) hx hb dX7_nearest_34 (by decide) (fun hc => ?_) (fun hc => ?_)
        · have hf := hf_t hc hf
          exact hj41 () hf _ _ _ h (lv_sub hl [0, 1, 2, 3] rfl)
        · have hf := hf_f hc hf
          exact hj37 () hf _ _ _ h (lv_sub hl [0, 1, 2, 3] rfl)

theorem dX7_gainsOf_0 : decode cX7_gainsOf 0 = .ok (.iload_n 2, 1) := by decide +kernel
theorem dX7_gainsOf_1 : decode cX7_gainsOf 1 = .ok (.iload_n 1, 1) := by decide +kernel
theorem dX7_gainsOf_2 : decode cX7_gainsOf 2 = .ok (.ishr, 1) := by decide +kernel
theorem dX7_gainsOf_3 : decode cX7_gainsOf 3 = .ok (.iconst 1, 1) := by decide +kernel
theorem dX7_gainsOf_4 : decode cX7_gainsOf 4 = .ok (.iand, 1) := by decide +kernel
theorem dX7_gainsOf_5 : decode cX7_gainsOf 5 = .ok (.ifCond .ne 8, 3) := by decide +kernel
theorem dX7_gainsOf_8 : decode cX7_gainsOf 8 = .ok (.aload_n 0, 1) := by decide +kernel
theorem dX7_gainsOf_9 : decode cX7_gainsOf 9 = .ok (.getfield 44, 3) := by decide +kernel
theorem dX7_gainsOf_12 : decode cX7_gainsOf 12 = .ok (.ireturn, 1) := by decide +kernel
theorem dX7_gainsOf_13 : decode cX7_gainsOf 13 = .ok (.aload_n 0, 1) := by decide +kernel
theorem dX7_gainsOf_14 : decode cX7_gainsOf 14 = .ok (.iload_n 1, 1) := by decide +kernel
theorem dX7_gainsOf_15 : decode cX7_gainsOf 15 = .ok (.invokevirtual 304, 3) := by decide +kernel
theorem dX7_gainsOf_18 : decode cX7_gainsOf 18 = .ok (.istore_n 3, 1) := by decide +kernel
theorem dX7_gainsOf_19 : decode cX7_gainsOf 19 = .ok (.iload_n 2, 1) := by decide +kernel
theorem dX7_gainsOf_20 : decode cX7_gainsOf 20 = .ok (.iload_n 3, 1) := by decide +kernel
theorem dX7_gainsOf_21 : decode cX7_gainsOf 21 = .ok (.ishr, 1) := by decide +kernel
theorem dX7_gainsOf_22 : decode cX7_gainsOf 22 = .ok (.iconst 1, 1) := by decide +kernel
theorem dX7_gainsOf_23 : decode cX7_gainsOf 23 = .ok (.iand, 1) := by decide +kernel
theorem dX7_gainsOf_24 : decode cX7_gainsOf 24 = .ok (.iconst 1, 1) := by decide +kernel
theorem dX7_gainsOf_25 : decode cX7_gainsOf 25 = .ok (.if_icmp .ne 10, 3) := by decide +kernel
theorem dX7_gainsOf_28 : decode cX7_gainsOf 28 = .ok (.aload_n 0, 1) := by decide +kernel
theorem dX7_gainsOf_29 : decode cX7_gainsOf 29 = .ok (.getfield 47, 3) := by decide +kernel
theorem dX7_gainsOf_32 : decode cX7_gainsOf 32 = .ok (.goto 4, 3) := by decide +kernel
theorem dX7_gainsOf_35 : decode cX7_gainsOf 35 = .ok (.iconst 0, 1) := by decide +kernel
theorem dX7_gainsOf_36 : decode cX7_gainsOf 36 = .ok (.aload_n 0, 1) := by decide +kernel
theorem dX7_gainsOf_37 : decode cX7_gainsOf 37 = .ok (.getfield 138, 3) := by decide +kernel
theorem dX7_gainsOf_40 : decode cX7_gainsOf 40 = .ok (.aload_n 0, 1) := by decide +kernel
theorem dX7_gainsOf_41 : decode cX7_gainsOf 41 = .ok (.iload_n 1, 1) := by decide +kernel
theorem dX7_gainsOf_42 : decode cX7_gainsOf 42 = .ok (.iload_n 3, 1) := by decide +kernel
theorem dX7_gainsOf_43 : decode cX7_gainsOf 43 = .ok (.invokevirtual 125, 3) := by decide +kernel
theorem dX7_gainsOf_46 : decode cX7_gainsOf 46 = .ok (.imul, 1) := by decide +kernel
theorem dX7_gainsOf_47 : decode cX7_gainsOf 47 = .ok (.isub, 1) := by decide +kernel
theorem dX7_gainsOf_48 : decode cX7_gainsOf 48 = .ok (.istore 4, 2) := by decide +kernel
theorem dX7_gainsOf_50 : decode cX7_gainsOf 50 = .ok (.iconst 0, 1) := by decide +kernel
theorem dX7_gainsOf_51 : decode cX7_gainsOf 51 = .ok (.istore 5, 2) := by decide +kernel
theorem dX7_gainsOf_53 : decode cX7_gainsOf 53 = .ok (.iload 5, 2) := by decide +kernel
theorem dX7_gainsOf_55 : decode cX7_gainsOf 55 = .ok (.aload_n 0, 1) := by decide +kernel
theorem dX7_gainsOf_56 : decode cX7_gainsOf 56 = .ok (.getfield 110, 3) := by decide +kernel
theorem dX7_gainsOf_59 : decode cX7_gainsOf 59 = .ok (.if_icmp .ge 48, 3) := by decide +kernel
theorem dX7_gainsOf_62 : decode cX7_gainsOf 62 = .ok (.iload 4, 2) := by decide +kernel
theorem dX7_gainsOf_64 : decode cX7_gainsOf 64 = .ok (.iload 5, 2) := by decide +kernel
theorem dX7_gainsOf_66 : decode cX7_gainsOf 66 = .ok (.iload_n 1, 1) := by decide +kernel
theorem dX7_gainsOf_67 : decode cX7_gainsOf 67 = .ok (.if_icmp .eq 30, 3) := by decide +kernel
theorem dX7_gainsOf_70 : decode cX7_gainsOf 70 = .ok (.iload_n 2, 1) := by decide +kernel
theorem dX7_gainsOf_71 : decode cX7_gainsOf 71 = .ok (.iload 5, 2) := by decide +kernel
theorem dX7_gainsOf_73 : decode cX7_gainsOf 73 = .ok (.ishr, 1) := by decide +kernel
theorem dX7_gainsOf_74 : decode cX7_gainsOf 74 = .ok (.iconst 1, 1) := by decide +kernel
theorem dX7_gainsOf_75 : decode cX7_gainsOf 75 = .ok (.iand, 1) := by decide +kernel
theorem dX7_gainsOf_76 : decode cX7_gainsOf 76 = .ok (.iconst 1, 1) := by decide +kernel
theorem dX7_gainsOf_77 : decode cX7_gainsOf 77 = .ok (.if_icmp .ne 20, 3) := by decide +kernel
theorem dX7_gainsOf_80 : decode cX7_gainsOf 80 = .ok (.aload_n 0, 1) := by decide +kernel
theorem dX7_gainsOf_81 : decode cX7_gainsOf 81 = .ok (.iload 5, 2) := by decide +kernel
theorem dX7_gainsOf_83 : decode cX7_gainsOf 83 = .ok (.invokevirtual 304, 3) := by decide +kernel
theorem dX7_gainsOf_86 : decode cX7_gainsOf 86 = .ok (.iload_n 1, 1) := by decide +kernel
theorem dX7_gainsOf_87 : decode cX7_gainsOf 87 = .ok (.if_icmp .ne 10, 3) := by decide +kernel
theorem dX7_gainsOf_90 : decode cX7_gainsOf 90 = .ok (.aload_n 0, 1) := by decide +kernel
theorem dX7_gainsOf_91 : decode cX7_gainsOf 91 = .ok (.getfield 50, 3) := by decide +kernel
theorem dX7_gainsOf_94 : decode cX7_gainsOf 94 = .ok (.goto 4, 3) := by decide +kernel
theorem dX7_gainsOf_97 : decode cX7_gainsOf 97 = .ok (.iconst 0, 1) := by decide +kernel
theorem dX7_gainsOf_98 : decode cX7_gainsOf 98 = .ok (.isub, 1) := by decide +kernel
theorem dX7_gainsOf_99 : decode cX7_gainsOf 99 = .ok (.istore 4, 2) := by decide +kernel
theorem dX7_gainsOf_101 : decode cX7_gainsOf 101 = .ok (.iinc 5 1, 3) := by decide +kernel
theorem dX7_gainsOf_104 : decode cX7_gainsOf 104 = .ok (.goto (-51), 3) := by decide +kernel
theorem dX7_gainsOf_107 : decode cX7_gainsOf 107 = .ok (.iload 4, 2) := by decide +kernel
theorem dX7_gainsOf_109 : decode cX7_gainsOf 109 = .ok (.ireturn, 1) := by decide +kernel
def lX7_gainsOf_53 (σ : St) (a0 : Nat) (a1 : Int32) (a2 : Int32) (x6 : Int32) (x7 : Int32) : Option ((Int32 × Int32) ⊕ (Int32)) :=
  o_gI σ a0 5 1 fun x8 =>
  if x8 ≤ x7 then
    some (.inr x6)
  else
  jn (fun (x11 : Int32) =>
    some (.inl (x6 - x11, x7 + 1))) fun j98 =>
  jn (fun (_ : Unit) =>
    j98 0) fun j97 =>
  if x7 = a1 then
    j97 ()
  else
  if ((a2 >>> (x7 &&& 31)) &&& 1) = 1 then
    o_k σ a0 5 <|
    (fX7_nearest σ a0 x7).bind fun x9 =>
    if x9 = a1 then
      o_gI σ a0 5 16 fun x10 =>
      j98 x10
    else
    j97 ()
  else
  j97 ()

def fX7_gainsOf (σ : St) (a0 : Nat) (a1 : Int32) (a2 : Int32) : Option (Int32) :=
  if ((a2 >>> (a1 &&& 31)) &&& 1) = 0 then
    o_gI σ a0 5 14 fun x13 =>
    some x13
  else
  o_k σ a0 5 <|
  (fX7_nearest σ a0 a1).bind fun x1 =>
  jn (fun (x3 : Int32) =>
    o_gI σ a0 5 17 fun x4 =>
    o_k σ a0 5 <|
    (fX7_farOf σ a0 a1 x1).bind fun x5 =>
    (loopF fuel (fun z => lX7_gainsOf_53 σ a0 a1 a2 z.1 z.2) (x3 - (x4 * x5), 0)).bind <| fun x12 =>
    some x12) fun j36 =>
  if ((a2 >>> (x1 &&& 31)) &&& 1) = 1 then
    o_gI σ a0 5 15 fun x2 =>
    j36 x2
  else
  j36 0

set_option maxHeartbeats 4000000 in
theorem wX7_gainsOf {l : Launch} {s0 : State} {A0 : Array Value} {D : va_G} {ac : Nat → ClassId} (G : Gl s0 A0 D ac) {σ : St} {a0 : Nat} {a1 : Int32} {a2 : Int32} {v : Int32} (hf : fX7_gainsOf σ a0 a1 a2 = some (v)) : Met l yX7_gainsOf (ws_ yX7_gainsOf cX7_gainsOf 6 (some (.int))) ({ frames := 3, cells := 0, slots := 0, locals := 65 } : Room) (Pn s0 D ac [.ref a0, .int a1, .int a2] σ) (Qn s0 D ac (some (.int v)) σ) 0 0 (fr s0) := by
  refine x_met (by decide) (Nat.le_of_ble_eq_true rfl) ?_
  intro p e s m args below meth c ls C hnm h hl
  have C : Cx s0 p s m args meth c cX7_gainsOf 6 "HutForShowModel" (some (.int)) := C
  have hx := C.1
  have hb := C.2.1
  have hl : lv_has ls 6 [(0, .ref a0), (1, .int a1), (2, .int a2)] := hl
  unfold fX7_gainsOf at hf
  refine lv_iload_n hx hb dX7_gainsOf_0 rfl (lv_at hl 2 rfl) ?_
  refine lv_iload_n hx hb dX7_gainsOf_1 rfl (lv_at hl 1 rfl) ?_
  refine lv_ishr hx hb dX7_gainsOf_2 ?_
  refine lv_iconst (v := 1) hx hb dX7_gainsOf_3 (by decide) ?_
  refine lv_iand hx hb dX7_gainsOf_4 ?_
  refine lv_if_ne (tgt := 13) hx hb dX7_gainsOf_5 (by decide) (fun hc => ?_) (fun hc => ?_)
  · have hf := hf_f hc hf
    refine lv_aload_n hx hb dX7_gainsOf_13 rfl (lv_at hl 0 rfl) ?_
    refine lv_iload_n hx hb dX7_gainsOf_14 rfl (lv_at hl 1 rfl) ?_
    obtain ⟨hk, hf⟩ := k_of hf
    obtain ⟨x1, hc, hf⟩ := hf_b hf
    refine x_cV (q := (RX7, TX7, 50)) (rest := []) (As := [.int a1]) (n := 1) (ov := (some (.int x1))) G C h (wX7_nearest G hc) hk rfl (lw_V q1456 q1458 qs49 q61 q1459) (by decide +kernel) ⟨Nat.le_of_ble_eq_true rfl, Nat.le_of_ble_eq_true rfl⟩ rfl rfl rfl hl.1 rfl (Nat.le_of_ble_eq_true rfl) dX7_gainsOf_15 ⟨(Nat.le_of_ble_eq_true rfl), (Nat.le_of_ble_eq_true rfl)⟩ (fun H locs h => ?_)
    refine lv_istore_n (lv' := [(3, .int x1), (0, .ref a0), (1, .int a1), (2, .int a2)]) hx hb dX7_gainsOf_18 rfl hl (by decide) rfl (fun ls hl => ?_)
    refine lv_iload_n hx hb dX7_gainsOf_19 rfl (lv_at hl 3 rfl) ?_
    refine lv_iload_n hx hb dX7_gainsOf_20 rfl (lv_at hl 0 rfl) ?_
    refine lv_ishr hx hb dX7_gainsOf_21 ?_
    refine lv_iconst (v := 1) hx hb dX7_gainsOf_22 (by decide) ?_
    refine lv_iand hx hb dX7_gainsOf_23 ?_
    refine lv_iconst (v := 1) hx hb dX7_gainsOf_24 (by decide) ?_
    refine jn_of (P := fun j => ∀ (x3 : Int32), j x3 = some (v) → ∀ (H : Heap) (locs : List Loc) (ls : Array Slot), Hs s0 D ac σ H locs → lv_has ls 6 [(0, .ref a0), (1, .int a1), (2, .int a2), (3, .int x1)] → W p l e ({ frames := 3, cells := 0, slots := 0, locals := 65 } : Room) s m args below meth c H locs 0 0 (MQ below (Qn s0 D ac (some (.int v)) σ) args s 0 0 (fr s0)) (F0 m 36 ls [.int x3])) hf ?_ ?_
    · intro x3 hf H locs ls h hl
      refine lv_aload_n hx hb dX7_gainsOf_36 rfl (lv_at hl 0 rfl) ?_
      refine x_gI (q := (RX7, TX7, 50)) (j := 17) G C h rfl (by decide) (fun _ _ _ => rfl) (lk C q1073) (fun _ z => z) dX7_gainsOf_37 hf (fun x4 hf => ?_)
      refine lv_aload_n hx hb dX7_gainsOf_40 rfl (lv_at hl 0 rfl) ?_
      refine lv_iload_n hx hb dX7_gainsOf_41 rfl (lv_at hl 1 rfl) ?_
      refine lv_iload_n hx hb dX7_gainsOf_42 rfl (lv_at hl 3 rfl) ?_
      obtain ⟨hk, hf⟩ := k_of hf
      obtain ⟨x5, hc, hf⟩ := hf_b hf
      refine x_cV (q := (RX7, TX7, 50)) (rest := [.int x4, .int x3]) (As := [.int a1, .int x1]) (n := 2) (ov := (some (.int x5))) G C h (wX7_farOf G hc) hk rfl (lw_V q1222 q1224 qs23 q61 q1225) (by decide +kernel) ⟨Nat.le_of_ble_eq_true rfl, Nat.le_of_ble_eq_true rfl⟩ rfl rfl rfl hl.1 rfl (Nat.le_of_ble_eq_true rfl) dX7_gainsOf_43 ⟨(Nat.le_of_ble_eq_true rfl), (Nat.le_of_ble_eq_true rfl)⟩ (fun H locs h => ?_)
      refine lv_imul hx hb dX7_gainsOf_46 ?_
      refine lv_isub hx hb dX7_gainsOf_47 ?_
      refine lv_istore (lv' := [(4, .int (x3 - (x4 * x5))), (0, .ref a0), (1, .int a1), (2, .int a2), (3, .int x1)]) hx hb dX7_gainsOf_48 hl (by decide) rfl (fun ls hl => ?_)
      refine lv_iconst (v := 0) hx hb dX7_gainsOf_50 (by decide) ?_
      refine lv_istore (lv' := [(5, .int 0), (4, .int (x3 - (x4 * x5))), (0, .ref a0), (1, .int a1), (2, .int a2), (3, .int x1)]) hx hb dX7_gainsOf_51 hl (by decide) rfl (fun ls hl => ?_)
      obtain ⟨e53, hL, hK⟩ := hf_b hf
      have hE53_0 : ∀ (x12 : Int32), x12 = e53 → ∀  (H : Heap) (locs : List Loc) (ls : Array Slot), Hs s0 D ac σ H locs → lv_has ls 6 [(0, .ref a0), (1, .int a1), (2, .int a2), (3, .int x1), (4, .int x12)] → W p l e ({ frames := 3, cells := 0, slots := 0, locals := 65 } : Room) s m args below meth c H locs 0 0 (MQ below (Qn s0 D ac (some (.int v)) σ) args s 0 0 (fr s0)) (F0 m 107 ls []) := by
        intro x12 he H locs ls h hl
        subst he
        have hf := hK
        refine lv_iload hx hb dX7_gainsOf_107 (lv_at hl 4 rfl) ?_
        cases hf
        refine W.widen (k := 0) (n := 0) (Nat.le_of_ble_eq_true rfl) (Nat.le_of_ble_eq_true rfl) ?_
        exact x_iret C h dX7_gainsOf_109
      refine loopF_ind (P := fun z => ∀ (H : Heap) (locs : List Loc) (ls : Array Slot), Hs s0 D ac σ H locs → lv_has ls 6 [(0, .ref a0), (1, .int a1), (2, .int a2), (3, .int x1), (4, .int z.1), (5, .int z.2)] → W p l e ({ frames := 3, cells := 0, slots := 0, locals := 65 } : Room) s m args below meth c H locs 0 0 (MQ below (Qn s0 D ac (some (.int v)) σ) args s 0 0 (fr s0)) (F0 m 53 ls [])) ?_ _ _ hL _ _ _ h (lv_sub hl [2, 3, 4, 5, 1, 0] rfl)
      clear hK hL h hl hf
      intro z o hf ih hX H locs ls h hl
      obtain ⟨x6, x7⟩ := z
      have h : Hs s0 D ac σ H locs := h
      have hl : lv_has ls 6 [(0, .ref a0), (1, .int a1), (2, .int a2), (3, .int x1), (4, .int x6), (5, .int x7)] := hl
      have hf : lX7_gainsOf_53 σ a0 a1 a2 x6 x7 = some o := hf
      unfold lX7_gainsOf_53 at hf
      refine lv_iload hx hb dX7_gainsOf_53 (lv_at hl 5 rfl) ?_
      refine lv_aload_n hx hb dX7_gainsOf_55 rfl (lv_at hl 0 rfl) ?_
      refine x_gI (q := (RX7, TX7, 50)) (j := 1) G C h rfl (by decide) (fun _ _ _ => rfl) (lk C q1057) (fun _ z => z) dX7_gainsOf_56 hf (fun x8 hf => ?_)
      refine lv_icmp_ge (tgt := 107) hx hb dX7_gainsOf_59 (by decide) (fun hc => ?_) (fun hc => ?_)
      · have hf := hf_t hc hf
        cases hf
        exact hE53_0 _ (hX _ rfl) _ _ _ h (lv_sub hl [0, 1, 2, 3, 4] rfl)
      · have hf := hf_f hc hf
        refine lv_iload hx hb dX7_gainsOf_62 (lv_at hl 4 rfl) ?_
        refine lv_iload hx hb dX7_gainsOf_64 (lv_at hl 5 rfl) ?_
        refine lv_iload_n hx hb dX7_gainsOf_66 rfl (lv_at hl 1 rfl) ?_
        refine jn_of (P := fun j => ∀ (x11 : Int32), j x11 = some o → ∀ (H : Heap) (locs : List Loc) (ls : Array Slot), Hs s0 D ac σ H locs → lv_has ls 6 [(0, .ref a0), (1, .int a1), (2, .int a2), (3, .int x1), (4, .int x6), (5, .int x7)] → W p l e ({ frames := 3, cells := 0, slots := 0, locals := 65 } : Room) s m args below meth c H locs 0 0 (MQ below (Qn s0 D ac (some (.int v)) σ) args s 0 0 (fr s0)) (F0 m 98 ls [.int x11, .int x6])) hf ?_ ?_
        · intro x11 hf H locs ls h hl
          refine lv_isub hx hb dX7_gainsOf_98 ?_
          refine lv_istore (lv' := [(4, .int (x6 - x11)), (0, .ref a0), (1, .int a1), (2, .int a2), (3, .int x1), (5, .int x7)]) hx hb dX7_gainsOf_99 hl (by decide) rfl (fun ls hl => ?_)
          refine lv_iinc (v := x7 + 1) (lv' := [(5, .int (x7 + 1)), (4, .int (x6 - x11)), (0, .ref a0), (1, .int a1), (2, .int a2), (3, .int x1)]) hx hb dX7_gainsOf_101 hl (k := 5) rfl rfl (by decide) rfl (fun ls hl => ?_)
          refine lv_goto (tgt := 53) hx hb dX7_gainsOf_104 (by decide) ?_
          cases hf
          exact ih _ rfl _ _ _ h (lv_sub hl [2, 3, 4, 5, 1, 0] rfl)
        intro j98 hj98 hf
        refine jn_of (P := fun j => ∀ (u0 : Unit), j u0 = some o → ∀ (H : Heap) (locs : List Loc) (ls : Array Slot), Hs s0 D ac σ H locs → lv_has ls 6 [(0, .ref a0), (1, .int a1), (2, .int a2), (3, .int x1), (4, .int x6), (5, .int x7)] → W p l e ({ frames := 3, cells := 0, slots := 0, locals := 65 } : Room) s m args below meth c H locs 0 0 (MQ below (Qn s0 D ac (some (.int v)) σ) args s 0 0 (fr s0)) (F0 m 97 ls [.int x6])) hf ?_ ?_
        · intro u0 hf H locs ls h hl
          refine lv_iconst (v := 0) hx hb dX7_gainsOf_97 (by decide) ?_
          exact hj98 _ hf _ _ _ h (lv_sub hl [0, 1, 2, 3, 4, 5] rfl)
        intro j97 hj97 hf
        refine lv_icmp_eq (tgt := 97) hx hb dX7_gainsOf_67 (by decide) (fun hc => ?_) (fun hc => ?_)
        · have hf := hf_t hc hf
          exact hj97 () hf _ _ _ h (lv_sub hl [0, 1, 2, 3, 4, 5] rfl)
        · have hf := hf_f hc hf
          refine lv_iload_n hx hb dX7_gainsOf_70 rfl (lv_at hl 2 rfl) ?_
          refine lv_iload hx hb dX7_gainsOf_71 (lv_at hl 5 rfl) ?_
          refine lv_ishr hx hb dX7_gainsOf_73 ?_
          refine lv_iconst (v := 1) hx hb dX7_gainsOf_74 (by decide) ?_
          refine lv_iand hx hb dX7_gainsOf_75 ?_
          refine lv_iconst (v := 1) hx hb dX7_gainsOf_76 (by decide) ?_
          refine lv_icmp_ne (tgt := 97) hx hb dX7_gainsOf_77 (by decide) (fun hc => ?_) (fun hc => ?_)
          · have hf := hf_f hc hf
            exact hj97 () hf _ _ _ h (lv_sub hl [0, 1, 2, 3, 4, 5] rfl)
          · have hf := hf_t hc hf
            refine lv_aload_n hx hb dX7_gainsOf_80 rfl (lv_at hl 0 rfl) ?_
            refine lv_iload hx hb dX7_gainsOf_81 (lv_at hl 5 rfl) ?_
            obtain ⟨hk, hf⟩ := k_of hf
            obtain ⟨x9, hc, hf⟩ := hf_b hf
            refine x_cV (q := (RX7, TX7, 50)) (rest := [.int x6]) (As := [.int x7]) (n := 1) (ov := (some (.int x9))) G C h (wX7_nearest G hc) hk rfl (lw_V q1456 q1458 qs49 q61 q1459) (by decide +kernel) ⟨Nat.le_of_ble_eq_true rfl, Nat.le_of_ble_eq_true rfl⟩ rfl rfl rfl hl.1 rfl (Nat.le_of_ble_eq_true rfl) dX7_gainsOf_83 ⟨(Nat.le_of_ble_eq_true rfl), (Nat.le_of_ble_eq_true rfl)⟩ (fun H locs h => ?_)
            refine lv_iload_n hx hb dX7_gainsOf_86 rfl (lv_at hl 1 rfl) ?_
            refine lv_icmp_ne (tgt := 97) hx hb dX7_gainsOf_87 (by decide) (fun hc => ?_) (fun hc => ?_)
            · have hf := hf_f hc hf
              exact hj97 () hf _ _ _ h (lv_sub hl [0, 1, 2, 3, 4, 5] rfl)
            · have hf := hf_t hc hf
              refine lv_aload_n hx hb dX7_gainsOf_90 rfl (lv_at hl 0 rfl) ?_
              refine x_gI (q := (RX7, TX7, 50)) (j := 16) G C h rfl (by decide) (fun _ _ _ => rfl) (lk C q1072) (fun _ z => z) dX7_gainsOf_91 hf (fun x10 hf => ?_)
              refine lv_goto (tgt := 98) hx hb dX7_gainsOf_94 (by decide) ?_
              exact hj98 _ hf _ _ _ h (lv_sub hl [0, 1, 2, 3, 4, 5] rfl)
    intro j36 hj36 hf
    refine lv_icmp_ne (tgt := 35) hx hb dX7_gainsOf_25 (by decide) (fun hc => ?_) (fun hc => ?_)
    · have hf := hf_f hc hf
      refine lv_iconst (v := 0) hx hb dX7_gainsOf_35 (by decide) ?_
      exact hj36 _ hf _ _ _ h (lv_sub hl [1, 2, 3, 0] rfl)
    · have hf := hf_t hc hf
      refine lv_aload_n hx hb dX7_gainsOf_28 rfl (lv_at hl 1 rfl) ?_
      refine x_gI (q := (RX7, TX7, 50)) (j := 15) G C h rfl (by decide) (fun _ _ _ => rfl) (lk C q1071) (fun _ z => z) dX7_gainsOf_29 hf (fun x2 hf => ?_)
      refine lv_goto (tgt := 36) hx hb dX7_gainsOf_32 (by decide) ?_
      exact hj36 _ hf _ _ _ h (lv_sub hl [1, 2, 3, 0] rfl)
  · have hf := hf_t hc hf
    refine lv_aload_n hx hb dX7_gainsOf_8 rfl (lv_at hl 0 rfl) ?_
    refine x_gI (q := (RX7, TX7, 50)) (j := 14) G C h rfl (by decide) (fun _ _ _ => rfl) (lk C q1070) (fun _ z => z) dX7_gainsOf_9 hf (fun x13 hf => ?_)
    cases hf
    refine W.widen (k := 0) (n := 0) (Nat.le_of_ble_eq_true rfl) (Nat.le_of_ble_eq_true rfl) ?_
    exact x_iret C h dX7_gainsOf_12

theorem dX7_gains_0 : decode cX7_gains 0 = .ok (.aload_n 0, 1) := by decide +kernel
theorem dX7_gains_1 : decode cX7_gains 1 = .ok (.iload_n 1, 1) := by decide +kernel
theorem dX7_gains_2 : decode cX7_gains 2 = .ok (.invokevirtual 121, 3) := by decide +kernel
theorem dX7_gains_5 : decode cX7_gains 5 = .ok (.ifCond .eq 28, 3) := by decide +kernel
theorem dX7_gains_8 : decode cX7_gains 8 = .ok (.aload_n 0, 1) := by decide +kernel
theorem dX7_gains_9 : decode cX7_gains 9 = .ok (.iload_n 2, 1) := by decide +kernel
theorem dX7_gains_10 : decode cX7_gains 10 = .ok (.invokevirtual 307, 3) := by decide +kernel
theorem dX7_gains_13 : decode cX7_gains 13 = .ok (.ifCond .eq 20, 3) := by decide +kernel
theorem dX7_gains_16 : decode cX7_gains 16 = .ok (.aload_n 0, 1) := by decide +kernel
theorem dX7_gains_17 : decode cX7_gains 17 = .ok (.getfield 110, 3) := by decide +kernel
theorem dX7_gains_20 : decode cX7_gains 20 = .ok (.iconst 1, 1) := by decide +kernel
theorem dX7_gains_21 : decode cX7_gains 21 = .ok (.if_icmp .le 12, 3) := by decide +kernel
theorem dX7_gains_24 : decode cX7_gains 24 = .ok (.aload_n 0, 1) := by decide +kernel
theorem dX7_gains_25 : decode cX7_gains 25 = .ok (.iload_n 1, 1) := by decide +kernel
theorem dX7_gains_26 : decode cX7_gains 26 = .ok (.iload_n 2, 1) := by decide +kernel
theorem dX7_gains_27 : decode cX7_gains 27 = .ok (.invokevirtual 310, 3) := by decide +kernel
theorem dX7_gains_30 : decode cX7_gains 30 = .ok (.goto 6, 3) := by decide +kernel
theorem dX7_gains_33 : decode cX7_gains 33 = .ok (.ldc_w 313, 3) := by decide +kernel
theorem dX7_gains_36 : decode cX7_gains 36 = .ok (.ireturn, 1) := by decide +kernel
def fX7_gains (σ : St) (a0 : Nat) (a1 : Int32) (a2 : Int32) : Option (Int32) :=
  o_k σ a0 5 <|
  (fX7_isHut σ a0 a1).bind fun x1 =>
  jn (fun (_ : Unit) =>
    some ((-2147483648))) fun j33 =>
  if x1 = 0 then
    j33 ()
  else
  o_k σ a0 5 <|
  (fX7_isSet σ a0 a2).bind fun x2 =>
  if x2 = 0 then
    j33 ()
  else
  o_gI σ a0 5 1 fun x3 =>
  if x3 ≤ 1 then
    j33 ()
  else
  o_k σ a0 5 <|
  (fX7_gainsOf σ a0 a1 a2).bind fun x4 =>
  some x4

set_option maxHeartbeats 4000000 in
theorem wX7_gains {l : Launch} {s0 : State} {A0 : Array Value} {D : va_G} {ac : Nat → ClassId} (G : Gl s0 A0 D ac) {σ : St} {a0 : Nat} {a1 : Int32} {a2 : Int32} {v : Int32} (hf : fX7_gains σ a0 a1 a2 = some (v)) : Met l yX7_gains (ws_ yX7_gains cX7_gains 3 (some (.int))) ({ frames := 4, cells := 0, slots := 0, locals := 90 } : Room) (Pn s0 D ac [.ref a0, .int a1, .int a2] σ) (Qn s0 D ac (some (.int v)) σ) 0 0 (fr s0) := by
  refine x_met (by decide) (Nat.le_of_ble_eq_true rfl) ?_
  intro p e s m args below meth c ls C hnm h hl
  have C : Cx s0 p s m args meth c cX7_gains 3 "HutForShowModel" (some (.int)) := C
  have hx := C.1
  have hb := C.2.1
  have hl : lv_has ls 3 [(0, .ref a0), (1, .int a1), (2, .int a2)] := hl
  unfold fX7_gains at hf
  refine lv_aload_n hx hb dX7_gains_0 rfl (lv_at hl 0 rfl) ?_
  refine lv_iload_n hx hb dX7_gains_1 rfl (lv_at hl 1 rfl) ?_
  obtain ⟨hk, hf⟩ := k_of hf
  obtain ⟨x1, hc, hf⟩ := hf_b hf
  refine x_cV (q := (RX7, TX7, 50)) (rest := []) (As := [.int a1]) (n := 1) (ov := (some (.int x1))) G C h (wX7_isHut G hc) hk rfl (lw_V q1218 q1220 qs22 q61 q1221) (by decide +kernel) ⟨Nat.le_of_ble_eq_true rfl, Nat.le_of_ble_eq_true rfl⟩ rfl rfl rfl hl.1 rfl (Nat.le_of_ble_eq_true rfl) dX7_gains_2 ⟨(Nat.le_of_ble_eq_true rfl), (Nat.le_of_ble_eq_true rfl)⟩ (fun H locs h => ?_)
  refine jn_of (P := fun j => ∀ (u0 : Unit), j u0 = some (v) → ∀ (H : Heap) (locs : List Loc) (ls : Array Slot), Hs s0 D ac σ H locs → lv_has ls 3 [(0, .ref a0), (1, .int a1), (2, .int a2)] → W p l e ({ frames := 4, cells := 0, slots := 0, locals := 90 } : Room) s m args below meth c H locs 0 0 (MQ below (Qn s0 D ac (some (.int v)) σ) args s 0 0 (fr s0)) (F0 m 33 ls [])) hf ?_ ?_
  · intro u0 hf H locs ls h hl
    refine lv_ldcw (v := (-2147483648)) hx hb C.2.2.2.1 (C.2.2.2.2.1 _ q1460) dX7_gains_33 ?_
    cases hf
    refine W.widen (k := 0) (n := 0) (Nat.le_of_ble_eq_true rfl) (Nat.le_of_ble_eq_true rfl) ?_
    exact x_iret C h dX7_gains_36
  intro j33 hj33 hf
  refine lv_if_eq (tgt := 33) hx hb dX7_gains_5 (by decide) (fun hc => ?_) (fun hc => ?_)
  · have hf := hf_t hc hf
    exact hj33 () hf _ _ _ h (lv_sub hl [0, 1, 2] rfl)
  · have hf := hf_f hc hf
    refine lv_aload_n hx hb dX7_gains_8 rfl (lv_at hl 0 rfl) ?_
    refine lv_iload_n hx hb dX7_gains_9 rfl (lv_at hl 2 rfl) ?_
    obtain ⟨hk, hf⟩ := k_of hf
    obtain ⟨x2, hc, hf⟩ := hf_b hf
    refine x_cV (q := (RX7, TX7, 50)) (rest := []) (As := [.int a2]) (n := 1) (ov := (some (.int x2))) G C h (wX7_isSet G hc) hk rfl (lw_V q1448 q1450 qs47 q61 q1451) (by decide +kernel) ⟨Nat.le_of_ble_eq_true rfl, Nat.le_of_ble_eq_true rfl⟩ rfl rfl rfl hl.1 rfl (Nat.le_of_ble_eq_true rfl) dX7_gains_10 ⟨(Nat.le_of_ble_eq_true rfl), (Nat.le_of_ble_eq_true rfl)⟩ (fun H locs h => ?_)
    refine lv_if_eq (tgt := 33) hx hb dX7_gains_13 (by decide) (fun hc => ?_) (fun hc => ?_)
    · have hf := hf_t hc hf
      exact hj33 () hf _ _ _ h (lv_sub hl [0, 1, 2] rfl)
    · have hf := hf_f hc hf
      refine lv_aload_n hx hb dX7_gains_16 rfl (lv_at hl 0 rfl) ?_
      refine x_gI (q := (RX7, TX7, 50)) (j := 1) G C h rfl (by decide) (fun _ _ _ => rfl) (lk C q1057) (fun _ z => z) dX7_gains_17 hf (fun x3 hf => ?_)
      refine lv_iconst (v := 1) hx hb dX7_gains_20 (by decide) ?_
      refine lv_icmp_le (tgt := 33) hx hb dX7_gains_21 (by decide) (fun hc => ?_) (fun hc => ?_)
      · have hf := hf_t hc hf
        exact hj33 () hf _ _ _ h (lv_sub hl [0, 1, 2] rfl)
      · have hf := hf_f hc hf
        refine lv_aload_n hx hb dX7_gains_24 rfl (lv_at hl 0 rfl) ?_
        refine lv_iload_n hx hb dX7_gains_25 rfl (lv_at hl 1 rfl) ?_
        refine lv_iload_n hx hb dX7_gains_26 rfl (lv_at hl 2 rfl) ?_
        obtain ⟨hk, hf⟩ := k_of hf
        obtain ⟨x4, hc, hf⟩ := hf_b hf
        refine x_cV (q := (RX7, TX7, 50)) (rest := []) (As := [.int a1, .int a2]) (n := 2) (ov := (some (.int x4))) G C h (wX7_gainsOf G hc) hk rfl (lw_V q1452 q1454 qs48 q61 q1455) (by decide +kernel) ⟨Nat.le_of_ble_eq_true rfl, Nat.le_of_ble_eq_true rfl⟩ rfl rfl rfl hl.1 rfl (Nat.le_of_ble_eq_true rfl) dX7_gains_27 ⟨(Nat.le_of_ble_eq_true rfl), (Nat.le_of_ble_eq_true rfl)⟩ (fun H locs h => ?_)
        refine lv_goto (tgt := 36) hx hb dX7_gains_30 (by decide) ?_
        cases hf
        refine W.widen (k := 0) (n := 0) (Nat.le_of_ble_eq_true rfl) (Nat.le_of_ble_eq_true rfl) ?_
        exact x_iret C h dX7_gains_36

theorem dX7_turnsOf_0 : decode cX7_turnsOf 0 = .ok (.iconst (-1), 1) := by decide +kernel
theorem dX7_turnsOf_1 : decode cX7_turnsOf 1 = .ok (.istore_n 2, 1) := by decide +kernel
theorem dX7_turnsOf_2 : decode cX7_turnsOf 2 = .ok (.aload_n 0, 1) := by decide +kernel
theorem dX7_turnsOf_3 : decode cX7_turnsOf 3 = .ok (.getfield 110, 3) := by decide +kernel
theorem dX7_turnsOf_6 : decode cX7_turnsOf 6 = .ok (.iconst 1, 1) := by decide +kernel
theorem dX7_turnsOf_7 : decode cX7_turnsOf 7 = .ok (.isub, 1) := by decide +kernel
theorem dX7_turnsOf_8 : decode cX7_turnsOf 8 = .ok (.istore_n 3, 1) := by decide +kernel
theorem dX7_turnsOf_9 : decode cX7_turnsOf 9 = .ok (.iload_n 3, 1) := by decide +kernel
theorem dX7_turnsOf_10 : decode cX7_turnsOf 10 = .ok (.ifCond .lt 34, 3) := by decide +kernel
theorem dX7_turnsOf_13 : decode cX7_turnsOf 13 = .ok (.aload_n 0, 1) := by decide +kernel
theorem dX7_turnsOf_14 : decode cX7_turnsOf 14 = .ok (.iload_n 3, 1) := by decide +kernel
theorem dX7_turnsOf_15 : decode cX7_turnsOf 15 = .ok (.iload_n 1, 1) := by decide +kernel
theorem dX7_turnsOf_16 : decode cX7_turnsOf 16 = .ok (.iconst 1, 1) := by decide +kernel
theorem dX7_turnsOf_17 : decode cX7_turnsOf 17 = .ok (.iload_n 3, 1) := by decide +kernel
theorem dX7_turnsOf_18 : decode cX7_turnsOf 18 = .ok (.ishl, 1) := by decide +kernel
theorem dX7_turnsOf_19 : decode cX7_turnsOf 19 = .ok (.ixor, 1) := by decide +kernel
theorem dX7_turnsOf_20 : decode cX7_turnsOf 20 = .ok (.invokevirtual 310, 3) := by decide +kernel
theorem dX7_turnsOf_23 : decode cX7_turnsOf 23 = .ok (.aload_n 0, 1) := by decide +kernel
theorem dX7_turnsOf_24 : decode cX7_turnsOf 24 = .ok (.iload_n 3, 1) := by decide +kernel
theorem dX7_turnsOf_25 : decode cX7_turnsOf 25 = .ok (.iload_n 1, 1) := by decide +kernel
theorem dX7_turnsOf_26 : decode cX7_turnsOf 26 = .ok (.invokevirtual 310, 3) := by decide +kernel
theorem dX7_turnsOf_29 : decode cX7_turnsOf 29 = .ok (.if_icmp .le 7, 3) := by decide +kernel
theorem dX7_turnsOf_32 : decode cX7_turnsOf 32 = .ok (.iload_n 3, 1) := by decide +kernel
theorem dX7_turnsOf_33 : decode cX7_turnsOf 33 = .ok (.goto 4, 3) := by decide +kernel
theorem dX7_turnsOf_36 : decode cX7_turnsOf 36 = .ok (.iload_n 2, 1) := by decide +kernel
theorem dX7_turnsOf_37 : decode cX7_turnsOf 37 = .ok (.istore_n 2, 1) := by decide +kernel
theorem dX7_turnsOf_38 : decode cX7_turnsOf 38 = .ok (.iinc 3 (-1), 3) := by decide +kernel
theorem dX7_turnsOf_41 : decode cX7_turnsOf 41 = .ok (.goto (-32), 3) := by decide +kernel
theorem dX7_turnsOf_44 : decode cX7_turnsOf 44 = .ok (.iload_n 2, 1) := by decide +kernel
theorem dX7_turnsOf_45 : decode cX7_turnsOf 45 = .ok (.ireturn, 1) := by decide +kernel
def lX7_turnsOf_9 (σ : St) (a0 : Nat) (a1 : Int32) (x2 : Int32) (x3 : Int32) : Option ((Int32 × Int32) ⊕ (Int32)) :=
  if x3 < 0 then
    some (.inr x2)
  else
  o_k σ a0 5 <|
  (fX7_gainsOf σ a0 x3 (a1 ^^^ (1 <<< (x3 &&& 31)))).bind fun x4 =>
  o_k σ a0 5 <|
  (fX7_gainsOf σ a0 x3 a1).bind fun x5 =>
  jn (fun (x6 : Int32) =>
    some (.inl (x6, x3 + (-1)))) fun j37 =>
  if x4 ≤ x5 then
    j37 x2
  else
  j37 x3

def fX7_turnsOf (σ : St) (a0 : Nat) (a1 : Int32) : Option (Int32) :=
  o_gI σ a0 5 1 fun x1 =>
  (loopF fuel (fun z => lX7_turnsOf_9 σ a0 a1 z.1 z.2) ((-1), x1 - 1)).bind <| fun x7 =>
  some x7

set_option maxHeartbeats 4000000 in
theorem wX7_turnsOf {l : Launch} {s0 : State} {A0 : Array Value} {D : va_G} {ac : Nat → ClassId} (G : Gl s0 A0 D ac) {σ : St} {a0 : Nat} {a1 : Int32} {v : Int32} (hf : fX7_turnsOf σ a0 a1 = some (v)) : Met l yX7_turnsOf (ws_ yX7_turnsOf cX7_turnsOf 4 (some (.int))) ({ frames := 4, cells := 0, slots := 0, locals := 90 } : Room) (Pn s0 D ac [.ref a0, .int a1] σ) (Qn s0 D ac (some (.int v)) σ) 0 0 (fr s0) := by
  refine x_met (by decide) (Nat.le_of_ble_eq_true rfl) ?_
  intro p e s m args below meth c ls C hnm h hl
  have C : Cx s0 p s m args meth c cX7_turnsOf 4 "HutForShowModel" (some (.int)) := C
  have hx := C.1
  have hb := C.2.1
  have hl : lv_has ls 4 [(0, .ref a0), (1, .int a1)] := hl
  unfold fX7_turnsOf at hf
  refine lv_iconst (v := (-1)) hx hb dX7_turnsOf_0 (by decide) ?_
  refine lv_istore_n (lv' := [(2, .int ((-1))), (0, .ref a0), (1, .int a1)]) hx hb dX7_turnsOf_1 rfl hl (by decide) rfl (fun ls hl => ?_)
  refine lv_aload_n hx hb dX7_turnsOf_2 rfl (lv_at hl 1 rfl) ?_
  refine x_gI (q := (RX7, TX7, 50)) (j := 1) G C h rfl (by decide) (fun _ _ _ => rfl) (lk C q1057) (fun _ z => z) dX7_turnsOf_3 hf (fun x1 hf => ?_)
  refine lv_iconst (v := 1) hx hb dX7_turnsOf_6 (by decide) ?_
  refine lv_isub hx hb dX7_turnsOf_7 ?_
  refine lv_istore_n (lv' := [(3, .int (x1 - 1)), (2, .int ((-1))), (0, .ref a0), (1, .int a1)]) hx hb dX7_turnsOf_8 rfl hl (by decide) rfl (fun ls hl => ?_)
  obtain ⟨e9, hL, hK⟩ := hf_b hf
  have hE9_0 : ∀ (x7 : Int32), x7 = e9 → ∀  (H : Heap) (locs : List Loc) (ls : Array Slot), Hs s0 D ac σ H locs → lv_has ls 4 [(0, .ref a0), (1, .int a1), (2, .int x7)] → W p l e ({ frames := 4, cells := 0, slots := 0, locals := 90 } : Room) s m args below meth c H locs 0 0 (MQ below (Qn s0 D ac (some (.int v)) σ) args s 0 0 (fr s0)) (F0 m 44 ls []) := by
    intro x7 he H locs ls h hl
    subst he
    have hf := hK
    refine lv_iload_n hx hb dX7_turnsOf_44 rfl (lv_at hl 2 rfl) ?_
    cases hf
    refine W.widen (k := 0) (n := 0) (Nat.le_of_ble_eq_true rfl) (Nat.le_of_ble_eq_true rfl) ?_
    exact x_iret C h dX7_turnsOf_45
  refine loopF_ind (P := fun z => ∀ (H : Heap) (locs : List Loc) (ls : Array Slot), Hs s0 D ac σ H locs → lv_has ls 4 [(0, .ref a0), (1, .int a1), (2, .int z.1), (3, .int z.2)] → W p l e ({ frames := 4, cells := 0, slots := 0, locals := 90 } : Room) s m args below meth c H locs 0 0 (MQ below (Qn s0 D ac (some (.int v)) σ) args s 0 0 (fr s0)) (F0 m 9 ls [])) ?_ _ _ hL _ _ _ h (lv_sub hl [2, 3, 1, 0] rfl)
  clear hK hL h hl hf
  intro z o hf ih hX H locs ls h hl
  obtain ⟨x2, x3⟩ := z
  have h : Hs s0 D ac σ H locs := h
  have hl : lv_has ls 4 [(0, .ref a0), (1, .int a1), (2, .int x2), (3, .int x3)] := hl
  have hf : lX7_turnsOf_9 σ a0 a1 x2 x3 = some o := hf
  unfold lX7_turnsOf_9 at hf
  refine lv_iload_n hx hb dX7_turnsOf_9 rfl (lv_at hl 3 rfl) ?_
  refine lv_if_lt (tgt := 44) hx hb dX7_turnsOf_10 (by decide) (fun hc => ?_) (fun hc => ?_)
  · have hf := hf_t hc hf
    cases hf
    exact hE9_0 _ (hX _ rfl) _ _ _ h (lv_sub hl [0, 1, 2] rfl)
  · have hf := hf_f hc hf
    refine lv_aload_n hx hb dX7_turnsOf_13 rfl (lv_at hl 0 rfl) ?_
    refine lv_iload_n hx hb dX7_turnsOf_14 rfl (lv_at hl 3 rfl) ?_
    refine lv_iload_n hx hb dX7_turnsOf_15 rfl (lv_at hl 1 rfl) ?_
    refine lv_iconst (v := 1) hx hb dX7_turnsOf_16 (by decide) ?_
    refine lv_iload_n hx hb dX7_turnsOf_17 rfl (lv_at hl 3 rfl) ?_
    refine lv_ishl hx hb dX7_turnsOf_18 ?_
    refine lv_ixor hx hb dX7_turnsOf_19 ?_
    obtain ⟨hk, hf⟩ := k_of hf
    obtain ⟨x4, hc, hf⟩ := hf_b hf
    refine x_cV (q := (RX7, TX7, 50)) (rest := []) (As := [.int x3, .int (a1 ^^^ (1 <<< (x3 &&& 31)))]) (n := 2) (ov := (some (.int x4))) G C h (wX7_gainsOf G hc) hk rfl (lw_V q1452 q1454 qs48 q61 q1455) (by decide +kernel) ⟨Nat.le_of_ble_eq_true rfl, Nat.le_of_ble_eq_true rfl⟩ rfl rfl rfl hl.1 rfl (Nat.le_of_ble_eq_true rfl) dX7_turnsOf_20 ⟨(Nat.le_of_ble_eq_true rfl), (Nat.le_of_ble_eq_true rfl)⟩ (fun H locs h => ?_)
    refine lv_aload_n hx hb dX7_turnsOf_23 rfl (lv_at hl 0 rfl) ?_
    refine lv_iload_n hx hb dX7_turnsOf_24 rfl (lv_at hl 3 rfl) ?_
    refine lv_iload_n hx hb dX7_turnsOf_25 rfl (lv_at hl 1 rfl) ?_
    obtain ⟨hk, hf⟩ := k_of hf
    obtain ⟨x5, hc, hf⟩ := hf_b hf
    refine x_cV (q := (RX7, TX7, 50)) (rest := [.int x4]) (As := [.int x3, .int a1]) (n := 2) (ov := (some (.int x5))) G C h (wX7_gainsOf G hc) hk rfl (lw_V q1452 q1454 qs48 q61 q1455) (by decide +kernel) ⟨Nat.le_of_ble_eq_true rfl, Nat.le_of_ble_eq_true rfl⟩ rfl rfl rfl hl.1 rfl (Nat.le_of_ble_eq_true rfl) dX7_turnsOf_26 ⟨(Nat.le_of_ble_eq_true rfl), (Nat.le_of_ble_eq_true rfl)⟩ (fun H locs h => ?_)
    refine jn_of (P := fun j => ∀ (x6 : Int32), j x6 = some o → ∀ (H : Heap) (locs : List Loc) (ls : Array Slot), Hs s0 D ac σ H locs → lv_has ls 4 [(0, .ref a0), (1, .int a1), (2, .int x2), (3, .int x3)] → W p l e ({ frames := 4, cells := 0, slots := 0, locals := 90 } : Room) s m args below meth c H locs 0 0 (MQ below (Qn s0 D ac (some (.int v)) σ) args s 0 0 (fr s0)) (F0 m 37 ls [.int x6])) hf ?_ ?_
    · intro x6 hf H locs ls h hl
      refine lv_istore_n (lv' := [(2, .int x6), (0, .ref a0), (1, .int a1), (3, .int x3)]) hx hb dX7_turnsOf_37 rfl hl (by decide) rfl (fun ls hl => ?_)
      refine lv_iinc (v := x3 + (-1)) (lv' := [(3, .int (x3 + (-1))), (2, .int x6), (0, .ref a0), (1, .int a1)]) hx hb dX7_turnsOf_38 hl (k := 3) rfl rfl (by decide) rfl (fun ls hl => ?_)
      refine lv_goto (tgt := 9) hx hb dX7_turnsOf_41 (by decide) ?_
      cases hf
      exact ih _ rfl _ _ _ h (lv_sub hl [2, 3, 1, 0] rfl)
    intro j37 hj37 hf
    refine lv_icmp_le (tgt := 36) hx hb dX7_turnsOf_29 (by decide) (fun hc => ?_) (fun hc => ?_)
    · have hf := hf_t hc hf
      refine lv_iload_n hx hb dX7_turnsOf_36 rfl (lv_at hl 2 rfl) ?_
      exact hj37 _ hf _ _ _ h (lv_sub hl [0, 1, 2, 3] rfl)
    · have hf := hf_f hc hf
      refine lv_iload_n hx hb dX7_turnsOf_32 rfl (lv_at hl 3 rfl) ?_
      refine lv_goto (tgt := 37) hx hb dX7_turnsOf_33 (by decide) ?_
      exact hj37 _ hf _ _ _ h (lv_sub hl [0, 1, 2, 3] rfl)

theorem dX7_even_0 : decode cX7_even 0 = .ok (.iload_n 1, 1) := by decide +kernel
theorem dX7_even_1 : decode cX7_even 1 = .ok (.iconst (-1), 1) := by decide +kernel
theorem dX7_even_2 : decode cX7_even 2 = .ok (.if_icmp .ge 6, 3) := by decide +kernel
theorem dX7_even_5 : decode cX7_even 5 = .ok (.bipush (-3), 2) := by decide +kernel
theorem dX7_even_7 : decode cX7_even 7 = .ok (.ireturn, 1) := by decide +kernel
theorem dX7_even_8 : decode cX7_even 8 = .ok (.aload_n 0, 1) := by decide +kernel
theorem dX7_even_9 : decode cX7_even 9 = .ok (.getfield 110, 3) := by decide +kernel
theorem dX7_even_12 : decode cX7_even 12 = .ok (.iconst 2, 1) := by decide +kernel
theorem dX7_even_13 : decode cX7_even 13 = .ok (.if_icmp .ge 5, 3) := by decide +kernel
theorem dX7_even_16 : decode cX7_even 16 = .ok (.iconst (-1), 1) := by decide +kernel
theorem dX7_even_17 : decode cX7_even 17 = .ok (.ireturn, 1) := by decide +kernel
theorem dX7_even_18 : decode cX7_even 18 = .ok (.iconst 0, 1) := by decide +kernel
theorem dX7_even_19 : decode cX7_even 19 = .ok (.istore_n 2, 1) := by decide +kernel
theorem dX7_even_20 : decode cX7_even 20 = .ok (.iconst 0, 1) := by decide +kernel
theorem dX7_even_21 : decode cX7_even 21 = .ok (.istore_n 3, 1) := by decide +kernel
theorem dX7_even_22 : decode cX7_even 22 = .ok (.iload_n 3, 1) := by decide +kernel
theorem dX7_even_23 : decode cX7_even 23 = .ok (.iconst 1, 1) := by decide +kernel
theorem dX7_even_24 : decode cX7_even 24 = .ok (.aload_n 0, 1) := by decide +kernel
theorem dX7_even_25 : decode cX7_even 25 = .ok (.getfield 110, 3) := by decide +kernel
theorem dX7_even_28 : decode cX7_even 28 = .ok (.ishl, 1) := by decide +kernel
theorem dX7_even_29 : decode cX7_even 29 = .ok (.if_icmp .ge 28, 3) := by decide +kernel
theorem dX7_even_32 : decode cX7_even 32 = .ok (.aload_n 0, 1) := by decide +kernel
theorem dX7_even_33 : decode cX7_even 33 = .ok (.iload_n 3, 1) := by decide +kernel
theorem dX7_even_34 : decode cX7_even 34 = .ok (.invokevirtual 314, 3) := by decide +kernel
theorem dX7_even_37 : decode cX7_even 37 = .ok (.iconst (-1), 1) := by decide +kernel
theorem dX7_even_38 : decode cX7_even 38 = .ok (.if_icmp .ne 13, 3) := by decide +kernel
theorem dX7_even_41 : decode cX7_even 41 = .ok (.iload_n 2, 1) := by decide +kernel
theorem dX7_even_42 : decode cX7_even 42 = .ok (.iload_n 1, 1) := by decide +kernel
theorem dX7_even_43 : decode cX7_even 43 = .ok (.if_icmp .ne 5, 3) := by decide +kernel
theorem dX7_even_46 : decode cX7_even 46 = .ok (.iload_n 3, 1) := by decide +kernel
theorem dX7_even_47 : decode cX7_even 47 = .ok (.ireturn, 1) := by decide +kernel
theorem dX7_even_48 : decode cX7_even 48 = .ok (.iinc 2 1, 3) := by decide +kernel
theorem dX7_even_51 : decode cX7_even 51 = .ok (.iinc 3 1, 3) := by decide +kernel
theorem dX7_even_54 : decode cX7_even 54 = .ok (.goto (-32), 3) := by decide +kernel
theorem dX7_even_57 : decode cX7_even 57 = .ok (.iload_n 1, 1) := by decide +kernel
theorem dX7_even_58 : decode cX7_even 58 = .ok (.iconst (-1), 1) := by decide +kernel
theorem dX7_even_59 : decode cX7_even 59 = .ok (.if_icmp .ne 7, 3) := by decide +kernel
theorem dX7_even_62 : decode cX7_even 62 = .ok (.iload_n 2, 1) := by decide +kernel
theorem dX7_even_63 : decode cX7_even 63 = .ok (.goto 4, 3) := by decide +kernel
theorem dX7_even_66 : decode cX7_even 66 = .ok (.iconst (-1), 1) := by decide +kernel
theorem dX7_even_67 : decode cX7_even 67 = .ok (.ireturn, 1) := by decide +kernel
def lX7_even_22 (σ : St) (a0 : Nat) (a1 : Int32) (x2 : Int32) (x3 : Int32) : Option ((Int32 × Int32) ⊕ ((Int32) ⊕ (Int32))) :=
  o_gI σ a0 5 1 fun x4 =>
  if (1 <<< (x4 &&& 31)) ≤ x3 then
    some (.inr (.inr x2))
  else
  o_k σ a0 5 <|
  (fX7_turnsOf σ a0 x3).bind fun x5 =>
  jn (fun (x6 : Int32) =>
    some (.inl (x6, x3 + 1))) fun j51 =>
  if x5 = ((-1)) then
    if x2 = a1 then
      some (.inr (.inl x3))
    else
    j51 (x2 + 1)
  else
  j51 x2

def fX7_even (σ : St) (a0 : Nat) (a1 : Int32) : Option (Int32) :=
  if ((-1)) ≤ a1 then
    o_gI σ a0 5 1 fun x1 =>
    if 2 ≤ x1 then
      (loopF fuel (fun z => lX7_even_22 σ a0 a1 z.1 z.2) (0, 0)).bind <| sm (  fun x7 =>
        some x7) <| fun x8 =>
      if a1 = ((-1)) then
        some x8
      else
      some ((-1))
    else
    some ((-1))
  else
  some ((-3))

set_option maxHeartbeats 4000000 in
theorem wX7_even {l : Launch} {s0 : State} {A0 : Array Value} {D : va_G} {ac : Nat → ClassId} (G : Gl s0 A0 D ac) {σ : St} {a0 : Nat} {a1 : Int32} {v : Int32} (hf : fX7_even σ a0 a1 = some (v)) : Met l yX7_even (ws_ yX7_even cX7_even 4 (some (.int))) ({ frames := 5, cells := 0, slots := 0, locals := 113 } : Room) (Pn s0 D ac [.ref a0, .int a1] σ) (Qn s0 D ac (some (.int v)) σ) 0 0 (fr s0) := by
  refine x_met (by decide) (Nat.le_of_ble_eq_true rfl) ?_
  intro p e s m args below meth c ls C hnm h hl
  have C : Cx s0 p s m args meth c cX7_even 4 "HutForShowModel" (some (.int)) := C
  have hx := C.1
  have hb := C.2.1
  have hl : lv_has ls 4 [(0, .ref a0), (1, .int a1)] := hl
  unfold fX7_even at hf
  refine lv_iload_n hx hb dX7_even_0 rfl (lv_at hl 1 rfl) ?_
  refine lv_iconst (v := (-1)) hx hb dX7_even_1 (by decide) ?_
  refine lv_icmp_ge (tgt := 8) hx hb dX7_even_2 (by decide) (fun hc => ?_) (fun hc => ?_)
  · have hf := hf_t hc hf
    refine lv_aload_n hx hb dX7_even_8 rfl (lv_at hl 0 rfl) ?_
    refine x_gI (q := (RX7, TX7, 50)) (j := 1) G C h rfl (by decide) (fun _ _ _ => rfl) (lk C q1057) (fun _ z => z) dX7_even_9 hf (fun x1 hf => ?_)
    refine lv_iconst (v := 2) hx hb dX7_even_12 (by decide) ?_
    refine lv_icmp_ge (tgt := 18) hx hb dX7_even_13 (by decide) (fun hc => ?_) (fun hc => ?_)
    · have hf := hf_t hc hf
      refine lv_iconst (v := 0) hx hb dX7_even_18 (by decide) ?_
      refine lv_istore_n (lv' := [(2, .int 0), (0, .ref a0), (1, .int a1)]) hx hb dX7_even_19 rfl hl (by decide) rfl (fun ls hl => ?_)
      refine lv_iconst (v := 0) hx hb dX7_even_20 (by decide) ?_
      refine lv_istore_n (lv' := [(3, .int 0), (2, .int 0), (0, .ref a0), (1, .int a1)]) hx hb dX7_even_21 rfl hl (by decide) rfl (fun ls hl => ?_)
      obtain ⟨e22, hL, hK⟩ := hf_b hf
      have hE22_0 : ∀ (x7 : Int32), (.inl x7) = e22 → ∀  (H : Heap) (locs : List Loc) (ls : Array Slot), Hs s0 D ac σ H locs → lv_has ls 4 [(0, .ref a0), (1, .int a1), (3, .int x7)] → W p l e ({ frames := 5, cells := 0, slots := 0, locals := 113 } : Room) s m args below meth c H locs 0 0 (MQ below (Qn s0 D ac (some (.int v)) σ) args s 0 0 (fr s0)) (F0 m 46 ls []) := by
        intro x7 he H locs ls h hl
        subst he
        have hf := hK
        have hf := hf_sl hf
        refine lv_iload_n hx hb dX7_even_46 rfl (lv_at hl 2 rfl) ?_
        cases hf
        refine W.widen (k := 0) (n := 0) (Nat.le_of_ble_eq_true rfl) (Nat.le_of_ble_eq_true rfl) ?_
        exact x_iret C h dX7_even_47
      have hE22_1 : ∀ (x8 : Int32), (.inr x8) = e22 → ∀  (H : Heap) (locs : List Loc) (ls : Array Slot), Hs s0 D ac σ H locs → lv_has ls 4 [(0, .ref a0), (1, .int a1), (2, .int x8)] → W p l e ({ frames := 5, cells := 0, slots := 0, locals := 113 } : Room) s m args below meth c H locs 0 0 (MQ below (Qn s0 D ac (some (.int v)) σ) args s 0 0 (fr s0)) (F0 m 57 ls []) := by
        intro x8 he H locs ls h hl
        subst he
        have hf := hK
        have hf := hf_sr hf
        refine lv_iload_n hx hb dX7_even_57 rfl (lv_at hl 1 rfl) ?_
        refine lv_iconst (v := (-1)) hx hb dX7_even_58 (by decide) ?_
        refine lv_icmp_ne (tgt := 66) hx hb dX7_even_59 (by decide) (fun hc => ?_) (fun hc => ?_)
        · have hf := hf_f hc hf
          refine lv_iconst (v := (-1)) hx hb dX7_even_66 (by decide) ?_
          cases hf
          refine W.widen (k := 0) (n := 0) (Nat.le_of_ble_eq_true rfl) (Nat.le_of_ble_eq_true rfl) ?_
          exact x_iret C h dX7_even_67
        · have hf := hf_t hc hf
          refine lv_iload_n hx hb dX7_even_62 rfl (lv_at hl 2 rfl) ?_
          refine lv_goto (tgt := 67) hx hb dX7_even_63 (by decide) ?_
          cases hf
          refine W.widen (k := 0) (n := 0) (Nat.le_of_ble_eq_true rfl) (Nat.le_of_ble_eq_true rfl) ?_
          exact x_iret C h dX7_even_67
      refine loopF_ind (P := fun z => ∀ (H : Heap) (locs : List Loc) (ls : Array Slot), Hs s0 D ac σ H locs → lv_has ls 4 [(0, .ref a0), (1, .int a1), (2, .int z.1), (3, .int z.2)] → W p l e ({ frames := 5, cells := 0, slots := 0, locals := 113 } : Room) s m args below meth c H locs 0 0 (MQ below (Qn s0 D ac (some (.int v)) σ) args s 0 0 (fr s0)) (F0 m 22 ls [])) ?_ _ _ hL _ _ _ h (lv_sub hl [2, 3, 1, 0] rfl)
      clear hK hL h hl hf
      intro z o hf ih hX H locs ls h hl
      obtain ⟨x2, x3⟩ := z
      have h : Hs s0 D ac σ H locs := h
      have hl : lv_has ls 4 [(0, .ref a0), (1, .int a1), (2, .int x2), (3, .int x3)] := hl
      have hf : lX7_even_22 σ a0 a1 x2 x3 = some o := hf
      unfold lX7_even_22 at hf
      refine lv_iload_n hx hb dX7_even_22 rfl (lv_at hl 3 rfl) ?_
      refine lv_iconst (v := 1) hx hb dX7_even_23 (by decide) ?_
      refine lv_aload_n hx hb dX7_even_24 rfl (lv_at hl 0 rfl) ?_
      refine x_gI (q := (RX7, TX7, 50)) (j := 1) G C h rfl (by decide) (fun _ _ _ => rfl) (lk C q1057) (fun _ z => z) dX7_even_25 hf (fun x4 hf => ?_)
      refine lv_ishl hx hb dX7_even_28 ?_
      refine lv_icmp_ge (tgt := 57) hx hb dX7_even_29 (by decide) (fun hc => ?_) (fun hc => ?_)
      · have hf := hf_t hc hf
        cases hf
        exact hE22_1 _ (hX _ rfl) _ _ _ h (lv_sub hl [0, 1, 2] rfl)
      · have hf := hf_f hc hf
        refine lv_aload_n hx hb dX7_even_32 rfl (lv_at hl 0 rfl) ?_
        refine lv_iload_n hx hb dX7_even_33 rfl (lv_at hl 3 rfl) ?_
        obtain ⟨hk, hf⟩ := k_of hf
        obtain ⟨x5, hc, hf⟩ := hf_b hf
        refine x_cV (q := (RX7, TX7, 50)) (rest := []) (As := [.int x3]) (n := 1) (ov := (some (.int x5))) G C h (wX7_turnsOf G hc) hk rfl (lw_V q1465 q1467 qs50 q61 q1468) (by decide +kernel) ⟨Nat.le_of_ble_eq_true rfl, Nat.le_of_ble_eq_true rfl⟩ rfl rfl rfl hl.1 rfl (Nat.le_of_ble_eq_true rfl) dX7_even_34 ⟨(Nat.le_of_ble_eq_true rfl), (Nat.le_of_ble_eq_true rfl)⟩ (fun H locs h => ?_)
        refine lv_iconst (v := (-1)) hx hb dX7_even_37 (by decide) ?_
        refine jn_of (P := fun j => ∀ (x6 : Int32), j x6 = some o → ∀ (H : Heap) (locs : List Loc) (ls : Array Slot), Hs s0 D ac σ H locs → lv_has ls 4 [(0, .ref a0), (1, .int a1), (2, .int x6), (3, .int x3)] → W p l e ({ frames := 5, cells := 0, slots := 0, locals := 113 } : Room) s m args below meth c H locs 0 0 (MQ below (Qn s0 D ac (some (.int v)) σ) args s 0 0 (fr s0)) (F0 m 51 ls [])) hf ?_ ?_
        · intro x6 hf H locs ls h hl
          refine lv_iinc (v := x3 + 1) (lv' := [(3, .int (x3 + 1)), (0, .ref a0), (1, .int a1), (2, .int x6)]) hx hb dX7_even_51 hl (k := 3) rfl rfl (by decide) rfl (fun ls hl => ?_)
          refine lv_goto (tgt := 22) hx hb dX7_even_54 (by decide) ?_
          cases hf
          exact ih _ rfl _ _ _ h (lv_sub hl [1, 2, 3, 0] rfl)
        intro j51 hj51 hf
        refine lv_icmp_ne (tgt := 51) hx hb dX7_even_38 (by decide) (fun hc => ?_) (fun hc => ?_)
        · have hf := hf_f hc hf
          exact hj51 _ hf _ _ _ h (lv_sub hl [0, 1, 2, 3] rfl)
        · have hf := hf_t hc hf
          refine lv_iload_n hx hb dX7_even_41 rfl (lv_at hl 2 rfl) ?_
          refine lv_iload_n hx hb dX7_even_42 rfl (lv_at hl 1 rfl) ?_
          refine lv_icmp_ne (tgt := 48) hx hb dX7_even_43 (by decide) (fun hc => ?_) (fun hc => ?_)
          · have hf := hf_f hc hf
            refine lv_iinc (v := x2 + 1) (lv' := [(2, .int (x2 + 1)), (0, .ref a0), (1, .int a1), (3, .int x3)]) hx hb dX7_even_48 hl (k := 2) rfl rfl (by decide) rfl (fun ls hl => ?_)
            exact hj51 _ hf _ _ _ h (lv_sub hl [1, 2, 0, 3] rfl)
          · have hf := hf_t hc hf
            cases hf
            exact hE22_0 _ (hX _ rfl) _ _ _ h (lv_sub hl [0, 1, 3] rfl)
    · have hf := hf_f hc hf
      refine lv_iconst (v := (-1)) hx hb dX7_even_16 (by decide) ?_
      cases hf
      refine W.widen (k := 0) (n := 0) (Nat.le_of_ble_eq_true rfl) (Nat.le_of_ble_eq_true rfl) ?_
      exact x_iret C h dX7_even_17
  · have hf := hf_f hc hf
    refine lv_bipush (v := (-3)) hx hb dX7_even_5 (by decide) ?_
    cases hf
    refine W.widen (k := 0) (n := 0) (Nat.le_of_ble_eq_true rfl) (Nat.le_of_ble_eq_true rfl) ?_
    exact x_iret C h dX7_even_7

theorem dX7_ring_0 : decode cX7_ring 0 = .ok (.aload_n 0, 1) := by decide +kernel
theorem dX7_ring_1 : decode cX7_ring 1 = .ok (.iload_n 1, 1) := by decide +kernel
theorem dX7_ring_2 : decode cX7_ring 2 = .ok (.invokevirtual 307, 3) := by decide +kernel
theorem dX7_ring_5 : decode cX7_ring 5 = .ok (.ifCond .ne 6, 3) := by decide +kernel
theorem dX7_ring_8 : decode cX7_ring 8 = .ok (.bipush (-3), 2) := by decide +kernel
theorem dX7_ring_10 : decode cX7_ring 10 = .ok (.ireturn, 1) := by decide +kernel
theorem dX7_ring_11 : decode cX7_ring 11 = .ok (.aload_n 0, 1) := by decide +kernel
theorem dX7_ring_12 : decode cX7_ring 12 = .ok (.getfield 110, 3) := by decide +kernel
theorem dX7_ring_15 : decode cX7_ring 15 = .ok (.iconst 2, 1) := by decide +kernel
theorem dX7_ring_16 : decode cX7_ring 16 = .ok (.if_icmp .ge 6, 3) := by decide +kernel
theorem dX7_ring_19 : decode cX7_ring 19 = .ok (.bipush (-4), 2) := by decide +kernel
theorem dX7_ring_21 : decode cX7_ring 21 = .ok (.ireturn, 1) := by decide +kernel
theorem dX7_ring_22 : decode cX7_ring 22 = .ok (.iconst 0, 1) := by decide +kernel
theorem dX7_ring_23 : decode cX7_ring 23 = .ok (.istore_n 2, 1) := by decide +kernel
theorem dX7_ring_24 : decode cX7_ring 24 = .ok (.iload_n 2, 1) := by decide +kernel
theorem dX7_ring_25 : decode cX7_ring 25 = .ok (.bipush 64, 2) := by decide +kernel
theorem dX7_ring_27 : decode cX7_ring 27 = .ok (.if_icmp .ge 16, 3) := by decide +kernel
theorem dX7_ring_30 : decode cX7_ring 30 = .ok (.aload_n 0, 1) := by decide +kernel
theorem dX7_ring_31 : decode cX7_ring 31 = .ok (.getfield 95, 3) := by decide +kernel
theorem dX7_ring_34 : decode cX7_ring 34 = .ok (.iload_n 2, 1) := by decide +kernel
theorem dX7_ring_35 : decode cX7_ring 35 = .ok (.iconst (-1), 1) := by decide +kernel
theorem dX7_ring_36 : decode cX7_ring 36 = .ok (.iastore, 1) := by decide +kernel
theorem dX7_ring_37 : decode cX7_ring 37 = .ok (.iinc 2 1, 3) := by decide +kernel
theorem dX7_ring_40 : decode cX7_ring 40 = .ok (.goto (-16), 3) := by decide +kernel
theorem dX7_ring_43 : decode cX7_ring 43 = .ok (.iload_n 1, 1) := by decide +kernel
theorem dX7_ring_44 : decode cX7_ring 44 = .ok (.istore_n 2, 1) := by decide +kernel
theorem dX7_ring_45 : decode cX7_ring 45 = .ok (.iconst 0, 1) := by decide +kernel
theorem dX7_ring_46 : decode cX7_ring 46 = .ok (.istore_n 3, 1) := by decide +kernel
theorem dX7_ring_47 : decode cX7_ring 47 = .ok (.aload_n 0, 1) := by decide +kernel
theorem dX7_ring_48 : decode cX7_ring 48 = .ok (.getfield 95, 3) := by decide +kernel
theorem dX7_ring_51 : decode cX7_ring 51 = .ok (.iload_n 2, 1) := by decide +kernel
theorem dX7_ring_52 : decode cX7_ring 52 = .ok (.iaload, 1) := by decide +kernel
theorem dX7_ring_53 : decode cX7_ring 53 = .ok (.iconst (-1), 1) := by decide +kernel
theorem dX7_ring_54 : decode cX7_ring 54 = .ok (.if_icmp .ne 38, 3) := by decide +kernel
theorem dX7_ring_57 : decode cX7_ring 57 = .ok (.aload_n 0, 1) := by decide +kernel
theorem dX7_ring_58 : decode cX7_ring 58 = .ok (.getfield 95, 3) := by decide +kernel
theorem dX7_ring_61 : decode cX7_ring 61 = .ok (.iload_n 2, 1) := by decide +kernel
theorem dX7_ring_62 : decode cX7_ring 62 = .ok (.iload_n 3, 1) := by decide +kernel
theorem dX7_ring_63 : decode cX7_ring 63 = .ok (.iastore, 1) := by decide +kernel
theorem dX7_ring_64 : decode cX7_ring 64 = .ok (.iinc 3 1, 3) := by decide +kernel
theorem dX7_ring_67 : decode cX7_ring 67 = .ok (.aload_n 0, 1) := by decide +kernel
theorem dX7_ring_68 : decode cX7_ring 68 = .ok (.iload_n 2, 1) := by decide +kernel
theorem dX7_ring_69 : decode cX7_ring 69 = .ok (.invokevirtual 314, 3) := by decide +kernel
theorem dX7_ring_72 : decode cX7_ring 72 = .ok (.istore 4, 2) := by decide +kernel
theorem dX7_ring_74 : decode cX7_ring 74 = .ok (.iload 4, 2) := by decide +kernel
theorem dX7_ring_76 : decode cX7_ring 76 = .ok (.iconst (-1), 1) := by decide +kernel
theorem dX7_ring_77 : decode cX7_ring 77 = .ok (.if_icmp .ne 5, 3) := by decide +kernel
theorem dX7_ring_80 : decode cX7_ring 80 = .ok (.iconst 0, 1) := by decide +kernel
theorem dX7_ring_81 : decode cX7_ring 81 = .ok (.ireturn, 1) := by decide +kernel
theorem dX7_ring_82 : decode cX7_ring 82 = .ok (.iload_n 2, 1) := by decide +kernel
theorem dX7_ring_83 : decode cX7_ring 83 = .ok (.iconst 1, 1) := by decide +kernel
theorem dX7_ring_84 : decode cX7_ring 84 = .ok (.iload 4, 2) := by decide +kernel
theorem dX7_ring_86 : decode cX7_ring 86 = .ok (.ishl, 1) := by decide +kernel
theorem dX7_ring_87 : decode cX7_ring 87 = .ok (.ixor, 1) := by decide +kernel
theorem dX7_ring_88 : decode cX7_ring 88 = .ok (.istore_n 2, 1) := by decide +kernel
theorem dX7_ring_89 : decode cX7_ring 89 = .ok (.goto (-42), 3) := by decide +kernel
theorem dX7_ring_92 : decode cX7_ring 92 = .ok (.iload_n 3, 1) := by decide +kernel
theorem dX7_ring_93 : decode cX7_ring 93 = .ok (.aload_n 0, 1) := by decide +kernel
theorem dX7_ring_94 : decode cX7_ring 94 = .ok (.getfield 95, 3) := by decide +kernel
theorem dX7_ring_97 : decode cX7_ring 97 = .ok (.iload_n 2, 1) := by decide +kernel
theorem dX7_ring_98 : decode cX7_ring 98 = .ok (.iaload, 1) := by decide +kernel
theorem dX7_ring_99 : decode cX7_ring 99 = .ok (.isub, 1) := by decide +kernel
theorem dX7_ring_100 : decode cX7_ring 100 = .ok (.ireturn, 1) := by decide +kernel
def lX7_ring_24 (a0 : Nat) (σ3 : St) (x4 : Int32) : Option ((St × Int32) ⊕ (St)) :=
  if 64 ≤ x4 then
    some (.inr σ3)
  else
  o_gR σ3 a0 5 42 fun r5 =>
  o_sI σ3 r5 0 x4 ((-1)) fun σ6 =>
  some (.inl (σ6, x4 + 1))

def lX7_ring_47 (a0 : Nat) (σ8 : St) (x9 : Int32) (x10 : Int32) : Option ((St × Int32 × Int32) ⊕ ((St) ⊕ (St × Int32 × Int32))) :=
  o_gR σ8 a0 5 42 fun r11 =>
  o_aI σ8 r11 0 x9 fun x12 =>
  if x12 = ((-1)) then
    o_gR σ8 a0 5 42 fun r13 =>
    o_sI σ8 r13 0 x9 x10 fun σ14 =>
    o_k σ14 a0 5 <|
    (fX7_turnsOf σ14 a0 x9).bind fun x15 =>
    if x15 = ((-1)) then
      some (.inr (.inl σ14))
    else
    o_let (x9 ^^^ (1 <<< (x15 &&& 31))) fun x16 =>
    some (.inl (σ14, x16, x10 + 1))
  else
  some (.inr (.inr (σ8, x9, x10)))

def fX7_ring (σ : St) (a0 : Nat) (a1 : Int32) : Option (Int32 × St) :=
  o_k σ a0 5 <|
  (fX7_isSet σ a0 a1).bind fun x1 =>
  if x1 = 0 then
    some ((-3), σ)
  else
  o_gI σ a0 5 1 fun x2 =>
  if 2 ≤ x2 then
    (loopF fuel (fun z => lX7_ring_24 a0 z.1 z.2) (σ, 0)).bind <| fun σ7 =>
    (loopF fuel (fun z => lX7_ring_47 a0 z.1 z.2.1 z.2.2) (σ7, a1, 0)).bind <| sm (  fun σ17 =>
      some (0, σ17)) <| un3 fun σ18 x19 x20 =>
    o_gR σ18 a0 5 42 fun r21 =>
    o_aI σ18 r21 0 x19 fun x22 =>
    some (x20 - x22, σ18)
  else
  some ((-4), σ)

set_option maxHeartbeats 4000000 in
theorem wX7_ring {l : Launch} {s0 : State} {A0 : Array Value} {D : va_G} {ac : Nat → ClassId} (G : Gl s0 A0 D ac) {σ : St} {a0 : Nat} {a1 : Int32} {v : Int32} {σ' : St} (hf : fX7_ring σ a0 a1 = some (v, σ')) : Met l yX7_ring (ws_ yX7_ring cX7_ring 5 (some (.int))) ({ frames := 5, cells := 0, slots := 0, locals := 113 } : Room) (Pn s0 D ac [.ref a0, .int a1] σ) (Qn s0 D ac (some (.int v)) σ') 0 0 (fr s0) := by
  refine x_met (by decide) (Nat.le_of_ble_eq_true rfl) ?_
  intro p e s m args below meth c ls C hnm h hl
  have C : Cx s0 p s m args meth c cX7_ring 5 "HutForShowModel" (some (.int)) := C
  have hx := C.1
  have hb := C.2.1
  have hl : lv_has ls 5 [(0, .ref a0), (1, .int a1)] := hl
  unfold fX7_ring at hf
  refine lv_aload_n hx hb dX7_ring_0 rfl (lv_at hl 0 rfl) ?_
  refine lv_iload_n hx hb dX7_ring_1 rfl (lv_at hl 1 rfl) ?_
  obtain ⟨hk, hf⟩ := k_of hf
  obtain ⟨x1, hc, hf⟩ := hf_b hf
  refine x_cV (q := (RX7, TX7, 50)) (rest := []) (As := [.int a1]) (n := 1) (ov := (some (.int x1))) G C h (wX7_isSet G hc) hk rfl (lw_V q1448 q1450 qs47 q61 q1451) (by decide +kernel) ⟨Nat.le_of_ble_eq_true rfl, Nat.le_of_ble_eq_true rfl⟩ rfl rfl rfl hl.1 rfl (Nat.le_of_ble_eq_true rfl) dX7_ring_2 ⟨(Nat.le_of_ble_eq_true rfl), (Nat.le_of_ble_eq_true rfl)⟩ (fun H locs h => ?_)
  refine lv_if_ne (tgt := 11) hx hb dX7_ring_5 (by decide) (fun hc => ?_) (fun hc => ?_)
  · have hf := hf_f hc hf
    refine lv_aload_n hx hb dX7_ring_11 rfl (lv_at hl 0 rfl) ?_
    refine x_gI (q := (RX7, TX7, 50)) (j := 1) G C h rfl (by decide) (fun _ _ _ => rfl) (lk C q1057) (fun _ z => z) dX7_ring_12 hf (fun x2 hf => ?_)
    refine lv_iconst (v := 2) hx hb dX7_ring_15 (by decide) ?_
    refine lv_icmp_ge (tgt := 22) hx hb dX7_ring_16 (by decide) (fun hc => ?_) (fun hc => ?_)
    · have hf := hf_t hc hf
      refine lv_iconst (v := 0) hx hb dX7_ring_22 (by decide) ?_
      refine lv_istore_n (lv' := [(2, .int 0), (0, .ref a0), (1, .int a1)]) hx hb dX7_ring_23 rfl hl (by decide) rfl (fun ls hl => ?_)
      obtain ⟨e24, hL, hK⟩ := hf_b hf
      have hE24_0 : ∀ (σ7 : St), σ7 = e24 → ∀  (H : Heap) (locs : List Loc) (ls : Array Slot), Hs s0 D ac σ7 H locs → lv_has ls 5 [(0, .ref a0), (1, .int a1)] → W p l e ({ frames := 5, cells := 0, slots := 0, locals := 113 } : Room) s m args below meth c H locs 0 0 (MQ below (Qn s0 D ac (some (.int v)) σ') args s 0 0 (fr s0)) (F0 m 43 ls []) := by
        intro σ7 he H locs ls h hl
        subst he
        have hf := hK
        refine lv_iload_n hx hb dX7_ring_43 rfl (lv_at hl 1 rfl) ?_
        refine lv_istore_n (lv' := [(2, .int a1), (0, .ref a0), (1, .int a1)]) hx hb dX7_ring_44 rfl hl (by decide) rfl (fun ls hl => ?_)
        refine lv_iconst (v := 0) hx hb dX7_ring_45 (by decide) ?_
        refine lv_istore_n (lv' := [(3, .int 0), (2, .int a1), (0, .ref a0), (1, .int a1)]) hx hb dX7_ring_46 rfl hl (by decide) rfl (fun ls hl => ?_)
        obtain ⟨e47, hL, hK⟩ := hf_b hf
        have hE47_0 : ∀ (σ17 : St), (.inl σ17) = e47 → ∀  (H : Heap) (locs : List Loc) (ls : Array Slot), Hs s0 D ac σ17 H locs → lv_has ls 5 [(0, .ref a0), (1, .int a1)] → W p l e ({ frames := 5, cells := 0, slots := 0, locals := 113 } : Room) s m args below meth c H locs 0 0 (MQ below (Qn s0 D ac (some (.int v)) σ') args s 0 0 (fr s0)) (F0 m 80 ls []) := by
          intro σ17 he H locs ls h hl
          subst he
          have hf := hK
          have hf := hf_sl hf
          refine lv_iconst (v := 0) hx hb dX7_ring_80 (by decide) ?_
          cases hf
          refine W.widen (k := 0) (n := 0) (Nat.le_of_ble_eq_true rfl) (Nat.le_of_ble_eq_true rfl) ?_
          exact x_iret C h dX7_ring_81
        have hE47_1 : ∀ (σ18 : St) (x19 : Int32) (x20 : Int32), (.inr (σ18, x19, x20)) = e47 → ∀  (H : Heap) (locs : List Loc) (ls : Array Slot), Hs s0 D ac σ18 H locs → lv_has ls 5 [(0, .ref a0), (1, .int a1), (2, .int x19), (3, .int x20)] → W p l e ({ frames := 5, cells := 0, slots := 0, locals := 113 } : Room) s m args below meth c H locs 0 0 (MQ below (Qn s0 D ac (some (.int v)) σ') args s 0 0 (fr s0)) (F0 m 92 ls []) := by
          intro σ18 x19 x20 he H locs ls h hl
          subst he
          have hf := hK
          have hf := hf_sr hf
          have hf := hf_u3 hf
          refine lv_iload_n hx hb dX7_ring_92 rfl (lv_at hl 3 rfl) ?_
          refine lv_aload_n hx hb dX7_ring_93 rfl (lv_at hl 0 rfl) ?_
          refine x_gR (q := (RX7, TX7, 50)) (j := 42) G C h rfl (by decide) (fun _ _ _ => rfl) (lk C q1098) (fun _ z => z) dX7_ring_94 hf (fun r21 hf => ?_)
          refine lv_iload_n hx hb dX7_ring_97 rfl (lv_at hl 2 rfl) ?_
          refine x_iald G C h dX7_ring_98 hf (fun x22 hf => ?_)
          refine lv_isub hx hb dX7_ring_99 ?_
          cases hf
          refine W.widen (k := 0) (n := 0) (Nat.le_of_ble_eq_true rfl) (Nat.le_of_ble_eq_true rfl) ?_
          exact x_iret C h dX7_ring_100
        refine loopF_ind (P := fun z => ∀ (H : Heap) (locs : List Loc) (ls : Array Slot), Hs s0 D ac (z.1) H locs → lv_has ls 5 [(0, .ref a0), (1, .int a1), (2, .int z.2.1), (3, .int z.2.2)] → W p l e ({ frames := 5, cells := 0, slots := 0, locals := 113 } : Room) s m args below meth c H locs 0 0 (MQ below (Qn s0 D ac (some (.int v)) σ') args s 0 0 (fr s0)) (F0 m 47 ls [])) ?_ _ _ hL _ _ _ h (lv_sub hl [2, 3, 1, 0] rfl)
        clear hK hL h hl hf
        intro z o hf ih hX H locs ls h hl
        obtain ⟨σ8, x9, x10⟩ := z
        have h : Hs s0 D ac σ8 H locs := h
        have hl : lv_has ls 5 [(0, .ref a0), (1, .int a1), (2, .int x9), (3, .int x10)] := hl
        have hf : lX7_ring_47 a0 σ8 x9 x10 = some o := hf
        unfold lX7_ring_47 at hf
        refine lv_aload_n hx hb dX7_ring_47 rfl (lv_at hl 0 rfl) ?_
        refine x_gR (q := (RX7, TX7, 50)) (j := 42) G C h rfl (by decide) (fun _ _ _ => rfl) (lk C q1098) (fun _ z => z) dX7_ring_48 hf (fun r11 hf => ?_)
        refine lv_iload_n hx hb dX7_ring_51 rfl (lv_at hl 2 rfl) ?_
        refine x_iald G C h dX7_ring_52 hf (fun x12 hf => ?_)
        refine lv_iconst (v := (-1)) hx hb dX7_ring_53 (by decide) ?_
        refine lv_icmp_ne (tgt := 92) hx hb dX7_ring_54 (by decide) (fun hc => ?_) (fun hc => ?_)
        · have hf := hf_f hc hf
          cases hf
          exact hE47_1 _ _ _ (hX _ rfl) _ _ _ h (lv_sub hl [0, 1, 2, 3] rfl)
        · have hf := hf_t hc hf
          refine lv_aload_n hx hb dX7_ring_57 rfl (lv_at hl 0 rfl) ?_
          refine x_gR (q := (RX7, TX7, 50)) (j := 42) G C h rfl (by decide) (fun _ _ _ => rfl) (lk C q1098) (fun _ z => z) dX7_ring_58 hf (fun r13 hf => ?_)
          refine lv_iload_n hx hb dX7_ring_61 rfl (lv_at hl 2 rfl) ?_
          refine lv_iload_n hx hb dX7_ring_62 rfl (lv_at hl 3 rfl) ?_
          refine x_iast G C h dX7_ring_63 hf (fun σ14 H locs h hf => ?_)
          refine lv_iinc (v := x10 + 1) (lv' := [(3, .int (x10 + 1)), (0, .ref a0), (1, .int a1), (2, .int x9)]) hx hb dX7_ring_64 hl (k := 3) rfl rfl (by decide) rfl (fun ls hl => ?_)
          refine lv_aload_n hx hb dX7_ring_67 rfl (lv_at hl 1 rfl) ?_
          refine lv_iload_n hx hb dX7_ring_68 rfl (lv_at hl 3 rfl) ?_
          obtain ⟨hk, hf⟩ := k_of hf
          obtain ⟨x15, hc, hf⟩ := hf_b hf
          refine x_cV (q := (RX7, TX7, 50)) (rest := []) (As := [.int x9]) (n := 1) (ov := (some (.int x15))) G C h (wX7_turnsOf G hc) hk rfl (lw_V q1465 q1467 qs50 q61 q1468) (by decide +kernel) ⟨Nat.le_of_ble_eq_true rfl, Nat.le_of_ble_eq_true rfl⟩ rfl rfl rfl hl.1 rfl (Nat.le_of_ble_eq_true rfl) dX7_ring_69 ⟨(Nat.le_of_ble_eq_true rfl), (Nat.le_of_ble_eq_true rfl)⟩ (fun H locs h => ?_)
          refine lv_istore (lv' := [(4, .int x15), (3, .int (x10 + 1)), (0, .ref a0), (1, .int a1), (2, .int x9)]) hx hb dX7_ring_72 hl (by decide) rfl (fun ls hl => ?_)
          refine lv_iload hx hb dX7_ring_74 (lv_at hl 0 rfl) ?_
          refine lv_iconst (v := (-1)) hx hb dX7_ring_76 (by decide) ?_
          refine lv_icmp_ne (tgt := 82) hx hb dX7_ring_77 (by decide) (fun hc => ?_) (fun hc => ?_)
          · have hf := hf_f hc hf
            refine lv_iload_n hx hb dX7_ring_82 rfl (lv_at hl 4 rfl) ?_
            refine lv_iconst (v := 1) hx hb dX7_ring_83 (by decide) ?_
            refine lv_iload hx hb dX7_ring_84 (lv_at hl 0 rfl) ?_
            refine lv_ishl hx hb dX7_ring_86 ?_
            refine lv_ixor hx hb dX7_ring_87 ?_
            refine x_letI hf (fun x16 hf => ?_)
            refine lv_istore_n (lv' := [(2, .int x16), (4, .int x15), (3, .int (x10 + 1)), (0, .ref a0), (1, .int a1)]) hx hb dX7_ring_88 rfl hl (by decide) rfl (fun ls hl => ?_)
            refine lv_goto (tgt := 47) hx hb dX7_ring_89 (by decide) ?_
            cases hf
            exact ih _ rfl _ _ _ h (lv_sub hl [3, 4, 0, 2] rfl)
          · have hf := hf_t hc hf
            cases hf
            exact hE47_0 _ (hX _ rfl) _ _ _ h (lv_sub hl [2, 3] rfl)
      refine loopF_ind (P := fun z => ∀ (H : Heap) (locs : List Loc) (ls : Array Slot), Hs s0 D ac (z.1) H locs → lv_has ls 5 [(0, .ref a0), (1, .int a1), (2, .int z.2)] → W p l e ({ frames := 5, cells := 0, slots := 0, locals := 113 } : Room) s m args below meth c H locs 0 0 (MQ below (Qn s0 D ac (some (.int v)) σ') args s 0 0 (fr s0)) (F0 m 24 ls [])) ?_ _ _ hL _ _ _ h (lv_sub hl [1, 2, 0] rfl)
      clear hK hL h hl hf
      intro z o hf ih hX H locs ls h hl
      obtain ⟨σ3, x4⟩ := z
      have h : Hs s0 D ac σ3 H locs := h
      have hl : lv_has ls 5 [(0, .ref a0), (1, .int a1), (2, .int x4)] := hl
      have hf : lX7_ring_24 a0 σ3 x4 = some o := hf
      unfold lX7_ring_24 at hf
      refine lv_iload_n hx hb dX7_ring_24 rfl (lv_at hl 2 rfl) ?_
      refine lv_bipush (v := 64) hx hb dX7_ring_25 (by decide) ?_
      refine lv_icmp_ge (tgt := 43) hx hb dX7_ring_27 (by decide) (fun hc => ?_) (fun hc => ?_)
      · have hf := hf_t hc hf
        cases hf
        exact hE24_0 _ (hX _ rfl) _ _ _ h (lv_sub hl [0, 1] rfl)
      · have hf := hf_f hc hf
        refine lv_aload_n hx hb dX7_ring_30 rfl (lv_at hl 0 rfl) ?_
        refine x_gR (q := (RX7, TX7, 50)) (j := 42) G C h rfl (by decide) (fun _ _ _ => rfl) (lk C q1098) (fun _ z => z) dX7_ring_31 hf (fun r5 hf => ?_)
        refine lv_iload_n hx hb dX7_ring_34 rfl (lv_at hl 2 rfl) ?_
        refine lv_iconst (v := (-1)) hx hb dX7_ring_35 (by decide) ?_
        refine x_iast G C h dX7_ring_36 hf (fun σ6 H locs h hf => ?_)
        refine lv_iinc (v := x4 + 1) (lv' := [(2, .int (x4 + 1)), (0, .ref a0), (1, .int a1)]) hx hb dX7_ring_37 hl (k := 2) rfl rfl (by decide) rfl (fun ls hl => ?_)
        refine lv_goto (tgt := 24) hx hb dX7_ring_40 (by decide) ?_
        cases hf
        exact ih _ rfl _ _ _ h (lv_sub hl [1, 2, 0] rfl)
    · have hf := hf_f hc hf
      refine lv_bipush (v := (-4)) hx hb dX7_ring_19 (by decide) ?_
      cases hf
      refine W.widen (k := 0) (n := 0) (Nat.le_of_ble_eq_true rfl) (Nat.le_of_ble_eq_true rfl) ?_
      exact x_iret C h dX7_ring_21
  · have hf := hf_t hc hf
    refine lv_bipush (v := (-3)) hx hb dX7_ring_8 (by decide) ?_
    cases hf
    refine W.widen (k := 0) (n := 0) (Nat.le_of_ble_eq_true rfl) (Nat.le_of_ble_eq_true rfl) ?_
    exact x_iret C h dX7_ring_10

theorem dX7_areShown_0 : decode cX7_areShown 0 = .ok (.iload_n 0, 1) := by decide +kernel
theorem dX7_areShown_1 : decode cX7_areShown 1 = .ok (.iconst 0, 1) := by decide +kernel
theorem dX7_areShown_2 : decode cX7_areShown 2 = .ok (.bipush 99, 2) := by decide +kernel
theorem dX7_areShown_4 : decode cX7_areShown 4 = .ok (.invokestatic 113, 3) := by decide +kernel
theorem dX7_areShown_7 : decode cX7_areShown 7 = .ok (.ifCond .eq 37, 3) := by decide +kernel
theorem dX7_areShown_10 : decode cX7_areShown 10 = .ok (.iload_n 1, 1) := by decide +kernel
theorem dX7_areShown_11 : decode cX7_areShown 11 = .ok (.iconst 0, 1) := by decide +kernel
theorem dX7_areShown_12 : decode cX7_areShown 12 = .ok (.bipush 99, 2) := by decide +kernel
theorem dX7_areShown_14 : decode cX7_areShown 14 = .ok (.invokestatic 113, 3) := by decide +kernel
theorem dX7_areShown_17 : decode cX7_areShown 17 = .ok (.ifCond .eq 27, 3) := by decide +kernel
theorem dX7_areShown_20 : decode cX7_areShown 20 = .ok (.iload_n 2, 1) := by decide +kernel
theorem dX7_areShown_21 : decode cX7_areShown 21 = .ok (.iconst 0, 1) := by decide +kernel
theorem dX7_areShown_22 : decode cX7_areShown 22 = .ok (.bipush 99, 2) := by decide +kernel
theorem dX7_areShown_24 : decode cX7_areShown 24 = .ok (.invokestatic 113, 3) := by decide +kernel
theorem dX7_areShown_27 : decode cX7_areShown 27 = .ok (.ifCond .eq 17, 3) := by decide +kernel
theorem dX7_areShown_30 : decode cX7_areShown 30 = .ok (.iload_n 3, 1) := by decide +kernel
theorem dX7_areShown_31 : decode cX7_areShown 31 = .ok (.iconst 0, 1) := by decide +kernel
theorem dX7_areShown_32 : decode cX7_areShown 32 = .ok (.bipush 99, 2) := by decide +kernel
theorem dX7_areShown_34 : decode cX7_areShown 34 = .ok (.invokestatic 113, 3) := by decide +kernel
theorem dX7_areShown_37 : decode cX7_areShown 37 = .ok (.ifCond .eq 7, 3) := by decide +kernel
theorem dX7_areShown_40 : decode cX7_areShown 40 = .ok (.iconst 1, 1) := by decide +kernel
theorem dX7_areShown_41 : decode cX7_areShown 41 = .ok (.goto 4, 3) := by decide +kernel
theorem dX7_areShown_44 : decode cX7_areShown 44 = .ok (.iconst 0, 1) := by decide +kernel
theorem dX7_areShown_45 : decode cX7_areShown 45 = .ok (.ireturn, 1) := by decide +kernel
def fX7_areShown (σ : St) (a0 : Int32) (a1 : Int32) (a2 : Int32) (a3 : Int32) : Option (Int32) :=
  (fX7_in σ a0 0 99).bind fun x1 =>
  jn (fun (_ : Unit) =>
    some 0) fun j44 =>
  if x1 = 0 then
    j44 ()
  else
  (fX7_in σ a1 0 99).bind fun x2 =>
  if x2 = 0 then
    j44 ()
  else
  (fX7_in σ a2 0 99).bind fun x3 =>
  if x3 = 0 then
    j44 ()
  else
  (fX7_in σ a3 0 99).bind fun x4 =>
  if x4 = 0 then
    j44 ()
  else
  some 1

set_option maxHeartbeats 4000000 in
theorem wX7_areShown {l : Launch} {s0 : State} {A0 : Array Value} {D : va_G} {ac : Nat → ClassId} (G : Gl s0 A0 D ac) {σ : St} {a0 : Int32} {a1 : Int32} {a2 : Int32} {a3 : Int32} {v : Int32} (hf : fX7_areShown σ a0 a1 a2 a3 = some (v)) : Met l yX7_areShown (ws_ yX7_areShown cX7_areShown 4 (some (.boolean))) ({ frames := 1, cells := 0, slots := 0, locals := 22 } : Room) (Pn s0 D ac [.int a0, .int a1, .int a2, .int a3] σ) (Qn s0 D ac (some (.int v)) σ) 0 0 (fr s0) := by
  refine x_met (by decide) (Nat.le_of_ble_eq_true rfl) ?_
  intro p e s m args below meth c ls C hnm h hl
  have C : Cx s0 p s m args meth c cX7_areShown 4 "HutForShowModel" (some (.boolean)) := C
  have hx := C.1
  have hb := C.2.1
  have hl : lv_has ls 4 [(0, .int a0), (1, .int a1), (2, .int a2), (3, .int a3)] := hl
  unfold fX7_areShown at hf
  refine lv_iload_n hx hb dX7_areShown_0 rfl (lv_at hl 0 rfl) ?_
  refine lv_iconst (v := 0) hx hb dX7_areShown_1 (by decide) ?_
  refine lv_bipush (v := 99) hx hb dX7_areShown_2 (by decide) ?_
  obtain ⟨x1, hc, hf⟩ := hf_b hf
  refine x_cS (rest := []) (As := [.int a0, .int 0, .int 99]) (n := 3) (ov := (some (.int x1))) C h (wX7_in G hc) (lw_S q1211 q1212 q61 q1213) (by decide +kernel) ⟨Nat.le_of_ble_eq_true rfl, Nat.le_of_ble_eq_true rfl⟩ rfl rfl rfl hl.1 rfl (Nat.le_of_ble_eq_true rfl) dX7_areShown_4 ⟨(Nat.le_of_ble_eq_true rfl), (Nat.le_of_ble_eq_true rfl)⟩ (fun H locs h => ?_)
  refine jn_of (P := fun j => ∀ (u0 : Unit), j u0 = some (v) → ∀ (H : Heap) (locs : List Loc) (ls : Array Slot), Hs s0 D ac σ H locs → lv_has ls 4 [(0, .int a0), (1, .int a1), (2, .int a2), (3, .int a3)] → W p l e ({ frames := 1, cells := 0, slots := 0, locals := 22 } : Room) s m args below meth c H locs 0 0 (MQ below (Qn s0 D ac (some (.int v)) σ) args s 0 0 (fr s0)) (F0 m 44 ls [])) hf ?_ ?_
  · intro u0 hf H locs ls h hl
    refine lv_iconst (v := 0) hx hb dX7_areShown_44 (by decide) ?_
    cases hf
    refine W.widen (k := 0) (n := 0) (Nat.le_of_ble_eq_true rfl) (Nat.le_of_ble_eq_true rfl) ?_
    exact x_zret C h (by decide) dX7_areShown_45
  intro j44 hj44 hf
  refine lv_if_eq (tgt := 44) hx hb dX7_areShown_7 (by decide) (fun hc => ?_) (fun hc => ?_)
  · have hf := hf_t hc hf
    exact hj44 () hf _ _ _ h (lv_sub hl [0, 1, 2, 3] rfl)
  · have hf := hf_f hc hf
    refine lv_iload_n hx hb dX7_areShown_10 rfl (lv_at hl 1 rfl) ?_
    refine lv_iconst (v := 0) hx hb dX7_areShown_11 (by decide) ?_
    refine lv_bipush (v := 99) hx hb dX7_areShown_12 (by decide) ?_
    obtain ⟨x2, hc, hf⟩ := hf_b hf
    refine x_cS (rest := []) (As := [.int a1, .int 0, .int 99]) (n := 3) (ov := (some (.int x2))) C h (wX7_in G hc) (lw_S q1211 q1212 q61 q1213) (by decide +kernel) ⟨Nat.le_of_ble_eq_true rfl, Nat.le_of_ble_eq_true rfl⟩ rfl rfl rfl hl.1 rfl (Nat.le_of_ble_eq_true rfl) dX7_areShown_14 ⟨(Nat.le_of_ble_eq_true rfl), (Nat.le_of_ble_eq_true rfl)⟩ (fun H locs h => ?_)
    refine lv_if_eq (tgt := 44) hx hb dX7_areShown_17 (by decide) (fun hc => ?_) (fun hc => ?_)
    · have hf := hf_t hc hf
      exact hj44 () hf _ _ _ h (lv_sub hl [0, 1, 2, 3] rfl)
    · have hf := hf_f hc hf
      refine lv_iload_n hx hb dX7_areShown_20 rfl (lv_at hl 2 rfl) ?_
      refine lv_iconst (v := 0) hx hb dX7_areShown_21 (by decide) ?_
      refine lv_bipush (v := 99) hx hb dX7_areShown_22 (by decide) ?_
      obtain ⟨x3, hc, hf⟩ := hf_b hf
      refine x_cS (rest := []) (As := [.int a2, .int 0, .int 99]) (n := 3) (ov := (some (.int x3))) C h (wX7_in G hc) (lw_S q1211 q1212 q61 q1213) (by decide +kernel) ⟨Nat.le_of_ble_eq_true rfl, Nat.le_of_ble_eq_true rfl⟩ rfl rfl rfl hl.1 rfl (Nat.le_of_ble_eq_true rfl) dX7_areShown_24 ⟨(Nat.le_of_ble_eq_true rfl), (Nat.le_of_ble_eq_true rfl)⟩ (fun H locs h => ?_)
      refine lv_if_eq (tgt := 44) hx hb dX7_areShown_27 (by decide) (fun hc => ?_) (fun hc => ?_)
      · have hf := hf_t hc hf
        exact hj44 () hf _ _ _ h (lv_sub hl [0, 1, 2, 3] rfl)
      · have hf := hf_f hc hf
        refine lv_iload_n hx hb dX7_areShown_30 rfl (lv_at hl 3 rfl) ?_
        refine lv_iconst (v := 0) hx hb dX7_areShown_31 (by decide) ?_
        refine lv_bipush (v := 99) hx hb dX7_areShown_32 (by decide) ?_
        obtain ⟨x4, hc, hf⟩ := hf_b hf
        refine x_cS (rest := []) (As := [.int a3, .int 0, .int 99]) (n := 3) (ov := (some (.int x4))) C h (wX7_in G hc) (lw_S q1211 q1212 q61 q1213) (by decide +kernel) ⟨Nat.le_of_ble_eq_true rfl, Nat.le_of_ble_eq_true rfl⟩ rfl rfl rfl hl.1 rfl (Nat.le_of_ble_eq_true rfl) dX7_areShown_34 ⟨(Nat.le_of_ble_eq_true rfl), (Nat.le_of_ble_eq_true rfl)⟩ (fun H locs h => ?_)
        refine lv_if_eq (tgt := 44) hx hb dX7_areShown_37 (by decide) (fun hc => ?_) (fun hc => ?_)
        · have hf := hf_t hc hf
          exact hj44 () hf _ _ _ h (lv_sub hl [0, 1, 2, 3] rfl)
        · have hf := hf_f hc hf
          refine lv_iconst (v := 1) hx hb dX7_areShown_40 (by decide) ?_
          refine lv_goto (tgt := 45) hx hb dX7_areShown_41 (by decide) ?_
          cases hf
          refine W.widen (k := 0) (n := 0) (Nat.le_of_ble_eq_true rfl) (Nat.le_of_ble_eq_true rfl) ?_
          exact x_zret C h (by decide) dX7_areShown_45

theorem dX7_chose_0 : decode cX7_chose 0 = .ok (.iload_n 1, 1) := by decide +kernel
theorem dX7_chose_1 : decode cX7_chose 1 = .ok (.iload_n 2, 1) := by decide +kernel
theorem dX7_chose_2 : decode cX7_chose 2 = .ok (.iload_n 3, 1) := by decide +kernel
theorem dX7_chose_3 : decode cX7_chose 3 = .ok (.iload 4, 2) := by decide +kernel
theorem dX7_chose_5 : decode cX7_chose 5 = .ok (.invokestatic 317, 3) := by decide +kernel
theorem dX7_chose_8 : decode cX7_chose 8 = .ok (.ifCond .ne 6, 3) := by decide +kernel
theorem dX7_chose_11 : decode cX7_chose 11 = .ok (.bipush (-3), 2) := by decide +kernel
theorem dX7_chose_13 : decode cX7_chose 13 = .ok (.ireturn, 1) := by decide +kernel
theorem dX7_chose_14 : decode cX7_chose 14 = .ok (.aload_n 0, 1) := by decide +kernel
theorem dX7_chose_15 : decode cX7_chose 15 = .ok (.getfield 321, 3) := by decide +kernel
theorem dX7_chose_18 : decode cX7_chose 18 = .ok (.bipush 16, 2) := by decide +kernel
theorem dX7_chose_20 : decode cX7_chose 20 = .ok (.if_icmp .ne 6, 3) := by decide +kernel
theorem dX7_chose_23 : decode cX7_chose 23 = .ok (.bipush (-5), 2) := by decide +kernel
theorem dX7_chose_25 : decode cX7_chose 25 = .ok (.ireturn, 1) := by decide +kernel
theorem dX7_chose_26 : decode cX7_chose 26 = .ok (.aload_n 0, 1) := by decide +kernel
theorem dX7_chose_27 : decode cX7_chose 27 = .ok (.getfield 98, 3) := by decide +kernel
theorem dX7_chose_30 : decode cX7_chose 30 = .ok (.iconst 5, 1) := by decide +kernel
theorem dX7_chose_31 : decode cX7_chose 31 = .ok (.aload_n 0, 1) := by decide +kernel
theorem dX7_chose_32 : decode cX7_chose 32 = .ok (.getfield 321, 3) := by decide +kernel
theorem dX7_chose_35 : decode cX7_chose 35 = .ok (.imul, 1) := by decide +kernel
theorem dX7_chose_36 : decode cX7_chose 36 = .ok (.iload_n 1, 1) := by decide +kernel
theorem dX7_chose_37 : decode cX7_chose 37 = .ok (.iastore, 1) := by decide +kernel
theorem dX7_chose_38 : decode cX7_chose 38 = .ok (.aload_n 0, 1) := by decide +kernel
theorem dX7_chose_39 : decode cX7_chose 39 = .ok (.getfield 98, 3) := by decide +kernel
theorem dX7_chose_42 : decode cX7_chose 42 = .ok (.iconst 5, 1) := by decide +kernel
theorem dX7_chose_43 : decode cX7_chose 43 = .ok (.aload_n 0, 1) := by decide +kernel
theorem dX7_chose_44 : decode cX7_chose 44 = .ok (.getfield 321, 3) := by decide +kernel
theorem dX7_chose_47 : decode cX7_chose 47 = .ok (.imul, 1) := by decide +kernel
theorem dX7_chose_48 : decode cX7_chose 48 = .ok (.iconst 1, 1) := by decide +kernel
theorem dX7_chose_49 : decode cX7_chose 49 = .ok (.iadd, 1) := by decide +kernel
theorem dX7_chose_50 : decode cX7_chose 50 = .ok (.iload_n 2, 1) := by decide +kernel
theorem dX7_chose_51 : decode cX7_chose 51 = .ok (.iastore, 1) := by decide +kernel
theorem dX7_chose_52 : decode cX7_chose 52 = .ok (.aload_n 0, 1) := by decide +kernel
theorem dX7_chose_53 : decode cX7_chose 53 = .ok (.getfield 98, 3) := by decide +kernel
theorem dX7_chose_56 : decode cX7_chose 56 = .ok (.iconst 5, 1) := by decide +kernel
theorem dX7_chose_57 : decode cX7_chose 57 = .ok (.aload_n 0, 1) := by decide +kernel
theorem dX7_chose_58 : decode cX7_chose 58 = .ok (.getfield 321, 3) := by decide +kernel
theorem dX7_chose_61 : decode cX7_chose 61 = .ok (.imul, 1) := by decide +kernel
theorem dX7_chose_62 : decode cX7_chose 62 = .ok (.iconst 2, 1) := by decide +kernel
theorem dX7_chose_63 : decode cX7_chose 63 = .ok (.iadd, 1) := by decide +kernel
theorem dX7_chose_64 : decode cX7_chose 64 = .ok (.iload_n 3, 1) := by decide +kernel
theorem dX7_chose_65 : decode cX7_chose 65 = .ok (.iastore, 1) := by decide +kernel
theorem dX7_chose_66 : decode cX7_chose 66 = .ok (.aload_n 0, 1) := by decide +kernel
theorem dX7_chose_67 : decode cX7_chose 67 = .ok (.getfield 98, 3) := by decide +kernel
theorem dX7_chose_70 : decode cX7_chose 70 = .ok (.iconst 5, 1) := by decide +kernel
theorem dX7_chose_71 : decode cX7_chose 71 = .ok (.aload_n 0, 1) := by decide +kernel
theorem dX7_chose_72 : decode cX7_chose 72 = .ok (.getfield 321, 3) := by decide +kernel
theorem dX7_chose_75 : decode cX7_chose 75 = .ok (.imul, 1) := by decide +kernel
theorem dX7_chose_76 : decode cX7_chose 76 = .ok (.iconst 3, 1) := by decide +kernel
theorem dX7_chose_77 : decode cX7_chose 77 = .ok (.iadd, 1) := by decide +kernel
theorem dX7_chose_78 : decode cX7_chose 78 = .ok (.iload 4, 2) := by decide +kernel
theorem dX7_chose_80 : decode cX7_chose 80 = .ok (.iastore, 1) := by decide +kernel
theorem dX7_chose_81 : decode cX7_chose 81 = .ok (.aload_n 0, 1) := by decide +kernel
theorem dX7_chose_82 : decode cX7_chose 82 = .ok (.getfield 98, 3) := by decide +kernel
theorem dX7_chose_85 : decode cX7_chose 85 = .ok (.iconst 5, 1) := by decide +kernel
theorem dX7_chose_86 : decode cX7_chose 86 = .ok (.aload_n 0, 1) := by decide +kernel
theorem dX7_chose_87 : decode cX7_chose 87 = .ok (.getfield 321, 3) := by decide +kernel
theorem dX7_chose_90 : decode cX7_chose 90 = .ok (.imul, 1) := by decide +kernel
theorem dX7_chose_91 : decode cX7_chose 91 = .ok (.iconst 4, 1) := by decide +kernel
theorem dX7_chose_92 : decode cX7_chose 92 = .ok (.iadd, 1) := by decide +kernel
theorem dX7_chose_93 : decode cX7_chose 93 = .ok (.iload 5, 2) := by decide +kernel
theorem dX7_chose_95 : decode cX7_chose 95 = .ok (.ifCond .eq 7, 3) := by decide +kernel
theorem dX7_chose_98 : decode cX7_chose 98 = .ok (.iconst 1, 1) := by decide +kernel
theorem dX7_chose_99 : decode cX7_chose 99 = .ok (.goto 4, 3) := by decide +kernel
theorem dX7_chose_102 : decode cX7_chose 102 = .ok (.iconst 0, 1) := by decide +kernel
theorem dX7_chose_103 : decode cX7_chose 103 = .ok (.iastore, 1) := by decide +kernel
theorem dX7_chose_104 : decode cX7_chose 104 = .ok (.aload_n 0, 1) := by decide +kernel
theorem dX7_chose_105 : decode cX7_chose 105 = .ok (.dup, 1) := by decide +kernel
theorem dX7_chose_106 : decode cX7_chose 106 = .ok (.getfield 321, 3) := by decide +kernel
theorem dX7_chose_109 : decode cX7_chose 109 = .ok (.iconst 1, 1) := by decide +kernel
theorem dX7_chose_110 : decode cX7_chose 110 = .ok (.iadd, 1) := by decide +kernel
theorem dX7_chose_111 : decode cX7_chose 111 = .ok (.putfield 321, 3) := by decide +kernel
theorem dX7_chose_114 : decode cX7_chose 114 = .ok (.aload_n 0, 1) := by decide +kernel
theorem dX7_chose_115 : decode cX7_chose 115 = .ok (.getfield 321, 3) := by decide +kernel
theorem dX7_chose_118 : decode cX7_chose 118 = .ok (.ireturn, 1) := by decide +kernel
def fX7_chose (σ : St) (a0 : Nat) (a1 : Int32) (a2 : Int32) (a3 : Int32) (a4 : Int32) (a5 : Int32) : Option (Int32 × St) :=
  (fX7_areShown σ a1 a2 a3 a4).bind fun x1 =>
  if x1 = 0 then
    some ((-3), σ)
  else
  o_gI σ a0 5 43 fun x2 =>
  if x2 = 16 then
    some ((-5), σ)
  else
  o_gR σ a0 5 44 fun r3 =>
  o_gI σ a0 5 43 fun x4 =>
  o_sI σ r3 0 (5 * x4) a1 fun σ5 =>
  o_gR σ5 a0 5 44 fun r6 =>
  o_gI σ5 a0 5 43 fun x7 =>
  o_sI σ5 r6 0 ((5 * x7) + 1) a2 fun σ8 =>
  o_gR σ8 a0 5 44 fun r9 =>
  o_gI σ8 a0 5 43 fun x10 =>
  o_sI σ8 r9 0 ((5 * x10) + 2) a3 fun σ11 =>
  o_gR σ11 a0 5 44 fun r12 =>
  o_gI σ11 a0 5 43 fun x13 =>
  o_sI σ11 r12 0 ((5 * x13) + 3) a4 fun σ14 =>
  o_gR σ14 a0 5 44 fun r15 =>
  o_gI σ14 a0 5 43 fun x16 =>
  jn (fun (x17 : Int32) =>
    o_sI σ14 r15 0 ((5 * x16) + 4) x17 fun σ18 =>
    o_gI σ18 a0 5 43 fun x19 =>
    o_pI σ18 a0 5 43 (x19 + 1) fun σ20 =>
    o_gI σ20 a0 5 43 fun x21 =>
    some (x21, σ20)) fun j103 =>
  if a5 = 0 then
    j103 0
  else
  j103 1

set_option maxHeartbeats 4000000 in
theorem wX7_chose {l : Launch} {s0 : State} {A0 : Array Value} {D : va_G} {ac : Nat → ClassId} (G : Gl s0 A0 D ac) {σ : St} {a0 : Nat} {a1 : Int32} {a2 : Int32} {a3 : Int32} {a4 : Int32} {a5 : Int32} {v : Int32} {σ' : St} (hf : fX7_chose σ a0 a1 a2 a3 a4 a5 = some (v, σ')) : Met l yX7_chose (ws_ yX7_chose cX7_chose 6 (some (.int))) ({ frames := 2, cells := 0, slots := 0, locals := 45 } : Room) (Pn s0 D ac [.ref a0, .int a1, .int a2, .int a3, .int a4, .int a5] σ) (Qn s0 D ac (some (.int v)) σ') 0 0 (fr s0) := by
  refine x_met (by decide) (Nat.le_of_ble_eq_true rfl) ?_
  intro p e s m args below meth c ls C hnm h hl
  have C : Cx s0 p s m args meth c cX7_chose 6 "HutForShowModel" (some (.int)) := C
  have hx := C.1
  have hb := C.2.1
  have hl : lv_has ls 6 [(0, .ref a0), (1, .int a1), (2, .int a2), (3, .int a3), (4, .int a4), (5, .int a5)] := hl
  unfold fX7_chose at hf
  refine lv_iload_n hx hb dX7_chose_0 rfl (lv_at hl 1 rfl) ?_
  refine lv_iload_n hx hb dX7_chose_1 rfl (lv_at hl 2 rfl) ?_
  refine lv_iload_n hx hb dX7_chose_2 rfl (lv_at hl 3 rfl) ?_
  refine lv_iload hx hb dX7_chose_3 (lv_at hl 4 rfl) ?_
  obtain ⟨x1, hc, hf⟩ := hf_b hf
  refine x_cS (rest := []) (As := [.int a1, .int a2, .int a3, .int a4]) (n := 4) (ov := (some (.int x1))) C h (wX7_areShown G hc) (lw_S q1477 q1478 q61 q1479) (by decide +kernel) ⟨Nat.le_of_ble_eq_true rfl, Nat.le_of_ble_eq_true rfl⟩ rfl rfl rfl hl.1 rfl (Nat.le_of_ble_eq_true rfl) dX7_chose_5 ⟨(Nat.le_of_ble_eq_true rfl), (Nat.le_of_ble_eq_true rfl)⟩ (fun H locs h => ?_)
  refine lv_if_ne (tgt := 14) hx hb dX7_chose_8 (by decide) (fun hc => ?_) (fun hc => ?_)
  · have hf := hf_f hc hf
    refine lv_aload_n hx hb dX7_chose_14 rfl (lv_at hl 0 rfl) ?_
    refine x_gI (q := (RX7, TX7, 50)) (j := 43) G C h rfl (by decide) (fun _ _ _ => rfl) (lk C q1099) (fun _ z => z) dX7_chose_15 hf (fun x2 hf => ?_)
    refine lv_bipush (v := 16) hx hb dX7_chose_18 (by decide) ?_
    refine lv_icmp_ne (tgt := 26) hx hb dX7_chose_20 (by decide) (fun hc => ?_) (fun hc => ?_)
    · have hf := hf_f hc hf
      refine lv_aload_n hx hb dX7_chose_26 rfl (lv_at hl 0 rfl) ?_
      refine x_gR (q := (RX7, TX7, 50)) (j := 44) G C h rfl (by decide) (fun _ _ _ => rfl) (lk C q1100) (fun _ z => z) dX7_chose_27 hf (fun r3 hf => ?_)
      refine lv_iconst (v := 5) hx hb dX7_chose_30 (by decide) ?_
      refine lv_aload_n hx hb dX7_chose_31 rfl (lv_at hl 0 rfl) ?_
      refine x_gI (q := (RX7, TX7, 50)) (j := 43) G C h rfl (by decide) (fun _ _ _ => rfl) (lk C q1099) (fun _ z => z) dX7_chose_32 hf (fun x4 hf => ?_)
      refine lv_imul hx hb dX7_chose_35 ?_
      refine lv_iload_n hx hb dX7_chose_36 rfl (lv_at hl 1 rfl) ?_
      refine x_iast G C h dX7_chose_37 hf (fun σ5 H locs h hf => ?_)
      refine lv_aload_n hx hb dX7_chose_38 rfl (lv_at hl 0 rfl) ?_
      refine x_gR (q := (RX7, TX7, 50)) (j := 44) G C h rfl (by decide) (fun _ _ _ => rfl) (lk C q1100) (fun _ z => z) dX7_chose_39 hf (fun r6 hf => ?_)
      refine lv_iconst (v := 5) hx hb dX7_chose_42 (by decide) ?_
      refine lv_aload_n hx hb dX7_chose_43 rfl (lv_at hl 0 rfl) ?_
      refine x_gI (q := (RX7, TX7, 50)) (j := 43) G C h rfl (by decide) (fun _ _ _ => rfl) (lk C q1099) (fun _ z => z) dX7_chose_44 hf (fun x7 hf => ?_)
      refine lv_imul hx hb dX7_chose_47 ?_
      refine lv_iconst (v := 1) hx hb dX7_chose_48 (by decide) ?_
      refine lv_iadd hx hb dX7_chose_49 ?_
      refine lv_iload_n hx hb dX7_chose_50 rfl (lv_at hl 2 rfl) ?_
      refine x_iast G C h dX7_chose_51 hf (fun σ8 H locs h hf => ?_)
      refine lv_aload_n hx hb dX7_chose_52 rfl (lv_at hl 0 rfl) ?_
      refine x_gR (q := (RX7, TX7, 50)) (j := 44) G C h rfl (by decide) (fun _ _ _ => rfl) (lk C q1100) (fun _ z => z) dX7_chose_53 hf (fun r9 hf => ?_)
      refine lv_iconst (v := 5) hx hb dX7_chose_56 (by decide) ?_
      refine lv_aload_n hx hb dX7_chose_57 rfl (lv_at hl 0 rfl) ?_
      refine x_gI (q := (RX7, TX7, 50)) (j := 43) G C h rfl (by decide) (fun _ _ _ => rfl) (lk C q1099) (fun _ z => z) dX7_chose_58 hf (fun x10 hf => ?_)
      refine lv_imul hx hb dX7_chose_61 ?_
      refine lv_iconst (v := 2) hx hb dX7_chose_62 (by decide) ?_
      refine lv_iadd hx hb dX7_chose_63 ?_
      refine lv_iload_n hx hb dX7_chose_64 rfl (lv_at hl 3 rfl) ?_
      refine x_iast G C h dX7_chose_65 hf (fun σ11 H locs h hf => ?_)
      refine lv_aload_n hx hb dX7_chose_66 rfl (lv_at hl 0 rfl) ?_
      refine x_gR (q := (RX7, TX7, 50)) (j := 44) G C h rfl (by decide) (fun _ _ _ => rfl) (lk C q1100) (fun _ z => z) dX7_chose_67 hf (fun r12 hf => ?_)
      refine lv_iconst (v := 5) hx hb dX7_chose_70 (by decide) ?_
      refine lv_aload_n hx hb dX7_chose_71 rfl (lv_at hl 0 rfl) ?_
      refine x_gI (q := (RX7, TX7, 50)) (j := 43) G C h rfl (by decide) (fun _ _ _ => rfl) (lk C q1099) (fun _ z => z) dX7_chose_72 hf (fun x13 hf => ?_)
      refine lv_imul hx hb dX7_chose_75 ?_
      refine lv_iconst (v := 3) hx hb dX7_chose_76 (by decide) ?_
      refine lv_iadd hx hb dX7_chose_77 ?_
      refine lv_iload hx hb dX7_chose_78 (lv_at hl 4 rfl) ?_
      refine x_iast G C h dX7_chose_80 hf (fun σ14 H locs h hf => ?_)
      refine lv_aload_n hx hb dX7_chose_81 rfl (lv_at hl 0 rfl) ?_
      refine x_gR (q := (RX7, TX7, 50)) (j := 44) G C h rfl (by decide) (fun _ _ _ => rfl) (lk C q1100) (fun _ z => z) dX7_chose_82 hf (fun r15 hf => ?_)
      refine lv_iconst (v := 5) hx hb dX7_chose_85 (by decide) ?_
      refine lv_aload_n hx hb dX7_chose_86 rfl (lv_at hl 0 rfl) ?_
      refine x_gI (q := (RX7, TX7, 50)) (j := 43) G C h rfl (by decide) (fun _ _ _ => rfl) (lk C q1099) (fun _ z => z) dX7_chose_87 hf (fun x16 hf => ?_)
      refine lv_imul hx hb dX7_chose_90 ?_
      refine lv_iconst (v := 4) hx hb dX7_chose_91 (by decide) ?_
      refine lv_iadd hx hb dX7_chose_92 ?_
      refine lv_iload hx hb dX7_chose_93 (lv_at hl 5 rfl) ?_
      refine jn_of (P := fun j => ∀ (x17 : Int32), j x17 = some (v, σ') → ∀ (H : Heap) (locs : List Loc) (ls : Array Slot), Hs s0 D ac σ14 H locs → lv_has ls 6 [(0, .ref a0), (1, .int a1), (2, .int a2), (3, .int a3), (4, .int a4), (5, .int a5)] → W p l e ({ frames := 2, cells := 0, slots := 0, locals := 45 } : Room) s m args below meth c H locs 0 0 (MQ below (Qn s0 D ac (some (.int v)) σ') args s 0 0 (fr s0)) (F0 m 103 ls [.int x17, .int ((5 * x16) + 4), .ref r15])) hf ?_ ?_
      · intro x17 hf H locs ls h hl
        refine x_iast G C h dX7_chose_103 hf (fun σ18 H locs h hf => ?_)
        refine lv_aload_n hx hb dX7_chose_104 rfl (lv_at hl 0 rfl) ?_
        refine lv_dup hx hb dX7_chose_105 rfl ?_
        refine x_gI (q := (RX7, TX7, 50)) (j := 43) G C h rfl (by decide) (fun _ _ _ => rfl) (lk C q1099) (fun _ z => z) dX7_chose_106 hf (fun x19 hf => ?_)
        refine lv_iconst (v := 1) hx hb dX7_chose_109 (by decide) ?_
        refine lv_iadd hx hb dX7_chose_110 ?_
        refine x_pI (q := (RX7, TX7, 50)) (j := 43) G C h rfl (by decide) rfl (lk C q1099) (fun _ z => z) (Or.inl rfl) dX7_chose_111 hf (fun σ20 H locs h hf => ?_)
        refine lv_aload_n hx hb dX7_chose_114 rfl (lv_at hl 0 rfl) ?_
        refine x_gI (q := (RX7, TX7, 50)) (j := 43) G C h rfl (by decide) (fun _ _ _ => rfl) (lk C q1099) (fun _ z => z) dX7_chose_115 hf (fun x21 hf => ?_)
        cases hf
        refine W.widen (k := 0) (n := 0) (Nat.le_of_ble_eq_true rfl) (Nat.le_of_ble_eq_true rfl) ?_
        exact x_iret C h dX7_chose_118
      intro j103 hj103 hf
      refine lv_if_eq (tgt := 102) hx hb dX7_chose_95 (by decide) (fun hc => ?_) (fun hc => ?_)
      · have hf := hf_t hc hf
        refine lv_iconst (v := 0) hx hb dX7_chose_102 (by decide) ?_
        exact hj103 _ hf _ _ _ h (lv_sub hl [0, 1, 2, 3, 4, 5] rfl)
      · have hf := hf_f hc hf
        refine lv_iconst (v := 1) hx hb dX7_chose_98 (by decide) ?_
        refine lv_goto (tgt := 103) hx hb dX7_chose_99 (by decide) ?_
        exact hj103 _ hf _ _ _ h (lv_sub hl [0, 1, 2, 3, 4, 5] rfl)
    · have hf := hf_t hc hf
      refine lv_bipush (v := (-5)) hx hb dX7_chose_23 (by decide) ?_
      cases hf
      refine W.widen (k := 0) (n := 0) (Nat.le_of_ble_eq_true rfl) (Nat.le_of_ble_eq_true rfl) ?_
      exact x_iret C h dX7_chose_25
  · have hf := hf_t hc hf
    refine lv_bipush (v := (-3)) hx hb dX7_chose_11 (by decide) ?_
    cases hf
    refine W.widen (k := 0) (n := 0) (Nat.le_of_ble_eq_true rfl) (Nat.le_of_ble_eq_true rfl) ?_
    exact x_iret C h dX7_chose_13
